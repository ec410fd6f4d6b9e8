/-! printed by emit.py: the functions that the methods compute, and their contracts -/
set_option maxRecDepth 100000
theorem pu_Bo_kind : (("LongerHalf$Bone" : String) ≠ "java/lang/invoke/MethodHandle" ∧ ("LongerHalf$Bone" : String) ≠ "java/lang/invoke/VarHandle") ∧ (parseMethodDescriptor "()I").map (fun d => d.parameters.length) = some 0 := ⟨⟨by decide +kernel, by decide +kernel⟩, by decide +kernel⟩
theorem pu_Pe_kind : (("LongerHalf$Person" : String) ≠ "java/lang/invoke/MethodHandle" ∧ ("LongerHalf$Person" : String) ≠ "java/lang/invoke/VarHandle") ∧ (parseMethodDescriptor "()I").map (fun d => d.parameters.length) = some 0 := ⟨⟨by decide +kernel, by decide +kernel⟩, by decide +kernel⟩
theorem pu_Pe_chooses : (("LongerHalf$Person" : String) ≠ "java/lang/invoke/MethodHandle" ∧ ("LongerHalf$Person" : String) ≠ "java/lang/invoke/VarHandle") ∧ (parseMethodDescriptor "(LLongerHalf$Bone;JJ)I").map (fun d => d.parameters.length) = some 3 := ⟨⟨by decide +kernel, by decide +kernel⟩, by decide +kernel⟩
theorem pu_Bo_isPulled : (("LongerHalf$Bone" : String) ≠ "java/lang/invoke/MethodHandle" ∧ ("LongerHalf$Bone" : String) ≠ "java/lang/invoke/VarHandle") ∧ (parseMethodDescriptor "()Z").map (fun d => d.parameters.length) = some 0 := ⟨⟨by decide +kernel, by decide +kernel⟩, by decide +kernel⟩
/-- LongerHalf.kitchen(I)I -/
abbrev M_X1_kitchen : MM := (yX1_kitchen, cX1_kitchen, (some .int), 11, 253, 3, (tableOf [((32 : Nat), (44 : Nat), (47 : Nat), (112 : Nat))]))
theorem pd_X1_kitchen : (yX1_kitchen.cls ≠ "java/lang/invoke/MethodHandle" ∧ yX1_kitchen.cls ≠ "java/lang/invoke/VarHandle") ∧ (parseMethodDescriptor yX1_kitchen.desc).map (fun d => d.parameters.length) = some 1 := ⟨⟨by decide +kernel, by decide +kernel⟩, by decide +kernel⟩
noncomputable def F_X1_kitchen_b47 : KK OO :=
  op_ast 2 <| op_ald 0 <| op_ald 2 <| op_gfi [12] 37 <| op_pfi .int [10] 5 <| op_ald 0 <| op_ald 2 <| op_gfi [12] 38 <| op_pfi .int [10] 6 <| op_ald 0 <| op_push (.int 4) <| op_call 2 (f_kd 10 F_X1_no) kx_no <| op_iret .int
theorem bs_X1_kitchen_b47 : B_S M_X1_kitchen 47 (F_X1_kitchen_b47) z_O k_O := by
  unfold F_X1_kitchen_b47
  refine BS_astore_n dX1_kitchen_47 rfl (Nat.le_of_ble_eq_true rfl) ?_
  refine BS_aload_n dX1_kitchen_48 rfl ?_
  refine BS_aload_n dX1_kitchen_49 rfl ?_
  refine BS_gfi f_X1_114 dX1_kitchen_50 ?_
  refine BS_pfi p_X1_101 (fun h => by cases h) dX1_kitchen_53 ?_
  refine BS_aload_n dX1_kitchen_56 rfl ?_
  refine BS_aload_n dX1_kitchen_57 rfl ?_
  refine BS_gfi f_X1_115 dX1_kitchen_58 ?_
  refine BS_pfi p_X1_26 (fun h => by cases h) dX1_kitchen_61 ?_
  refine BS_aload_n dX1_kitchen_64 rfl ?_
  refine BS_iconst dX1_kitchen_65 (by decide) ?_
  refine BS_call (run_V dX1_kitchen_66 con_X1_no (ci := 0) rfl rfl q502 q504 qs3 q136 q505 pd_X1_no ⟨Nat.le_of_ble_eq_true rfl, Nat.le_of_ble_eq_true rfl⟩) BV_no ?_
  exact BS_ireturn dX1_kitchen_69 rfl
noncomputable def F_X1_kitchen_b0 : KK OO :=
  op_ald 0 <| op_call 1 (f_kd 10 F_X1_anew) kx_no <| op_ild 1 <| op_push (.int 0) <| op_ald 0 <| op_gfi [10] 1 <| op_call 3 F_X1_in kx_no <| op_ine (op_ald 0 <| op_push (.int 0) <| op_pfi .int [10] 1 <| op_ald 0 <| op_push (.int 0) <| op_pfi .int [10] 5 <| op_ald 0 <| op_ald 0 <| op_gfr [10] 2 <| op_ild 1 <| op_call 2 (f_kd 11 F_X2_read) (kx_catch 12 F_X1_kitchen_b47) <| op_pfr [10] 3 <| op_ald 0 <| op_gfr [10] 9 <| op_ald 0 <| op_gfr [10] 3 <| op_call 2 (f_kd 13 F_X4_begin) kx_no <| op_ald 0 <| op_push (.int 0) <| op_pfi .int [10] 8 <| op_ald 0 <| op_push (.int 0) <| op_pfi .int [10] 7 <| op_ald 0 <| op_gfr [10] 3 <| op_gfi [17] 77 <| op_iret .int) (op_ald 0 <| op_push (.int 2) <| op_call 2 (f_kd 10 F_X1_no) kx_no <| op_iret .int)
theorem bs_X1_kitchen_b0 : B_S M_X1_kitchen 0 (F_X1_kitchen_b0) z_O k_O := by
  unfold F_X1_kitchen_b0
  refine BS_aload_n dX1_kitchen_0 rfl ?_
  refine BS_call (run_V dX1_kitchen_1 con_X1_anew (ci := 0) rfl rfl q495 q497 qs2 q136 q498 pd_X1_anew ⟨Nat.le_of_ble_eq_true rfl, Nat.le_of_ble_eq_true rfl⟩) BV_no ?_
  refine BS_iload_n dX1_kitchen_4 rfl ?_
  refine BS_iconst dX1_kitchen_5 (by decide) ?_
  refine BS_aload_n dX1_kitchen_6 rfl ?_
  refine BS_gfi f_X1_86 dX1_kitchen_7 ?_
  refine BS_call (run_S dX1_kitchen_10 con_X1_in q499 q500 q136 q501 pd_X1_in ⟨Nat.le_of_ble_eq_true rfl, Nat.le_of_ble_eq_true rfl⟩) BV_no ?_
  refine BS_if_ne (tgt := 22) dX1_kitchen_13 (by decide) ?_ ?_
  · refine BS_aload_n dX1_kitchen_22 rfl ?_
    refine BS_iconst dX1_kitchen_23 (by decide) ?_
    refine BS_pfi p_X1_86 (fun h => by cases h) dX1_kitchen_24 ?_
    refine BS_aload_n dX1_kitchen_27 rfl ?_
    refine BS_iconst dX1_kitchen_28 (by decide) ?_
    refine BS_pfi p_X1_101 (fun h => by cases h) dX1_kitchen_29 ?_
    refine BS_aload_n dX1_kitchen_32 rfl ?_
    refine BS_aload_n dX1_kitchen_33 rfl ?_
    refine BS_gfr f_X1_22 dX1_kitchen_34 ?_
    refine BS_iload_n dX1_kitchen_37 rfl ?_
    refine BS_call (run_V dX1_kitchen_38 con_X2_read (ci := 1) rfl rfl q506 q507 q508 q137 q509 pd_X2_read ⟨Nat.le_of_ble_eq_true rfl, Nat.le_of_ble_eq_true rfl⟩) (BV_catch (ci := 2) (q := (RX3, TX3, 8)) rfl (by decide) (by decide) rfl q494 rfl q184 bs_X1_kitchen_b47) ?_
    refine BS_pfr p_X1_108 rfl (fun h => by cases h) dX1_kitchen_41 ?_
    refine BS_goto (tgt := 70) dX1_kitchen_44 (by decide) ?_
    refine BS_aload_n dX1_kitchen_70 rfl ?_
    refine BS_gfr f_X1_33 dX1_kitchen_71 ?_
    refine BS_aload_n dX1_kitchen_74 rfl ?_
    refine BS_gfr f_X1_108 dX1_kitchen_75 ?_
    refine BS_call (run_V dX1_kitchen_78 con_X4_begin (ci := 3) rfl rfl q1064 q1065 q1066 q142 q1067 pd_X4_begin ⟨Nat.le_of_ble_eq_true rfl, Nat.le_of_ble_eq_true rfl⟩) BV_no ?_
    refine BS_aload_n dX1_kitchen_81 rfl ?_
    refine BS_iconst dX1_kitchen_82 (by decide) ?_
    refine BS_pfi p_X1_122 (fun h => by cases h) dX1_kitchen_83 ?_
    refine BS_aload_n dX1_kitchen_86 rfl ?_
    refine BS_iconst dX1_kitchen_87 (by decide) ?_
    refine BS_pfi p_X1_125 (fun h => by cases h) dX1_kitchen_88 ?_
    refine BS_aload_n dX1_kitchen_91 rfl ?_
    refine BS_gfr f_X1_108 dX1_kitchen_92 ?_
    refine BS_gfi f_X1_128 dX1_kitchen_95 ?_
    exact BS_ireturn dX1_kitchen_98 rfl
  · refine BS_aload_n dX1_kitchen_16 rfl ?_
    refine BS_iconst dX1_kitchen_17 (by decide) ?_
    refine BS_call (run_V dX1_kitchen_18 con_X1_no (ci := 0) rfl rfl q502 q504 qs3 q136 q505 pd_X1_no ⟨Nat.le_of_ble_eq_true rfl, Nat.le_of_ble_eq_true rfl⟩) BV_no ?_
    exact BS_ireturn dX1_kitchen_21 rfl
noncomputable def F_X1_kitchen : FF := mk_F 3 F_X1_kitchen_b0
theorem con_X1_kitchen : Con_ yX1_kitchen (wsW_ yX1_kitchen cX1_kitchen 3 (some .int) [((32 : Nat), (44 : Nat), (47 : Nat), (112 : Nat))]) 11 253 F_X1_kitchen := Con_ofW (by decide +kernel) bs_X1_kitchen_b0
/-- LongerHalf.fault()I -/
abbrev M_X1_fault : MM := (yX1_fault, cX1_fault, (some .int), 0, 0, 1, [])
theorem pd_X1_fault : (yX1_fault.cls ≠ "java/lang/invoke/MethodHandle" ∧ yX1_fault.cls ≠ "java/lang/invoke/VarHandle") ∧ (parseMethodDescriptor yX1_fault.desc).map (fun d => d.parameters.length) = some 0 := ⟨⟨by decide +kernel, by decide +kernel⟩, by decide +kernel⟩
noncomputable def F_X1_fault_b0 : KK OO :=
  op_ald 0 <| op_gfi [10] 5 <| op_iret .int
theorem bs_X1_fault_b0 : B_S M_X1_fault 0 (F_X1_fault_b0) z_O k_O := by
  unfold F_X1_fault_b0
  refine BS_aload_n dX1_fault_0 rfl ?_
  refine BS_gfi f_X1_101 dX1_fault_1 ?_
  exact BS_ireturn dX1_fault_4 rfl
noncomputable def F_X1_fault : FF := mk_F 1 F_X1_fault_b0
theorem con_X1_fault : Con_ yX1_fault (ws_ yX1_fault cX1_fault 1 (some .int)) 0 0 F_X1_fault := Con_of (by decide +kernel) bs_X1_fault_b0
/-- LongerHalf.where()I -/
abbrev M_X1_where : MM := (yX1_where, cX1_where, (some .int), 0, 0, 1, [])
theorem pd_X1_where : (yX1_where.cls ≠ "java/lang/invoke/MethodHandle" ∧ yX1_where.cls ≠ "java/lang/invoke/VarHandle") ∧ (parseMethodDescriptor yX1_where.desc).map (fun d => d.parameters.length) = some 0 := ⟨⟨by decide +kernel, by decide +kernel⟩, by decide +kernel⟩
noncomputable def F_X1_where_b0 : KK OO :=
  op_ald 0 <| op_gfi [10] 4 <| op_push (.int 4) <| op_cne (op_push (.int (-1)) <| op_iret .int) (op_ald 0 <| op_gfi [10] 6 <| op_iret .int)
theorem bs_X1_where_b0 : B_S M_X1_where 0 (F_X1_where_b0) z_O k_O := by
  unfold F_X1_where_b0
  refine BS_aload_n dX1_where_0 rfl ?_
  refine BS_gfi f_X1_80 dX1_where_1 ?_
  refine BS_iconst dX1_where_4 (by decide) ?_
  refine BS_icmp_ne (tgt := 15) dX1_where_5 (by decide) ?_ ?_
  · refine BS_iconst dX1_where_15 (by decide) ?_
    exact BS_ireturn dX1_where_16 rfl
  · refine BS_aload_n dX1_where_8 rfl ?_
    refine BS_gfi f_X1_26 dX1_where_9 ?_
    refine BS_goto (tgt := 16) dX1_where_12 (by decide) ?_
    exact BS_ireturn dX1_where_16 rfl
noncomputable def F_X1_where : FF := mk_F 1 F_X1_where_b0
theorem con_X1_where : Con_ yX1_where (ws_ yX1_where cX1_where 1 (some .int)) 0 0 F_X1_where := Con_of (by decide +kernel) bs_X1_where_b0
/-- LongerHalf.isBone(I)Z -/
abbrev M_X1_isBone : MM := (yX1_isBone, cX1_isBone, (some .boolean), 1, 22, 2, [])
theorem pd_X1_isBone : (yX1_isBone.cls ≠ "java/lang/invoke/MethodHandle" ∧ yX1_isBone.cls ≠ "java/lang/invoke/VarHandle") ∧ (parseMethodDescriptor yX1_isBone.desc).map (fun d => d.parameters.length) = some 1 := ⟨⟨by decide +kernel, by decide +kernel⟩, by decide +kernel⟩
noncomputable def F_X1_isBone_b0 : KK OO :=
  op_ald 0 <| op_gfr [10] 3 <| op_ifn (op_push (.int 0) <| op_iret .boolean) (op_ild 1 <| op_push (.int 0) <| op_ald 0 <| op_gfr [10] 3 <| op_gfi [17] 77 <| op_push (.int 1) <| op_i2 (fun x y => x - y) <| op_call 3 F_X1_in kx_no <| op_ieq (op_push (.int 0) <| op_iret .boolean) (op_push (.int 1) <| op_iret .boolean))
theorem bs_X1_isBone_b0 : B_S M_X1_isBone 0 (F_X1_isBone_b0) z_O k_O := by
  unfold F_X1_isBone_b0
  refine BS_aload_n dX1_isBone_0 rfl ?_
  refine BS_gfr f_X1_108 dX1_isBone_1 ?_
  refine BS_ifnull (tgt := 28) dX1_isBone_4 (by decide) ?_ ?_
  · refine BS_iconst dX1_isBone_28 (by decide) ?_
    exact BS_ireturn dX1_isBone_29 rfl
  · refine BS_iload_n dX1_isBone_7 rfl ?_
    refine BS_iconst dX1_isBone_8 (by decide) ?_
    refine BS_aload_n dX1_isBone_9 rfl ?_
    refine BS_gfr f_X1_108 dX1_isBone_10 ?_
    refine BS_gfi f_X1_128 dX1_isBone_13 ?_
    refine BS_iconst dX1_isBone_16 (by decide) ?_
    refine BS_isub dX1_isBone_17 ?_
    refine BS_call (run_S dX1_isBone_18 con_X1_in q499 q500 q136 q501 pd_X1_in ⟨Nat.le_of_ble_eq_true rfl, Nat.le_of_ble_eq_true rfl⟩) BV_no ?_
    refine BS_if_eq (tgt := 28) dX1_isBone_21 (by decide) ?_ ?_
    · refine BS_iconst dX1_isBone_28 (by decide) ?_
      exact BS_ireturn dX1_isBone_29 rfl
    · refine BS_iconst dX1_isBone_24 (by decide) ?_
      refine BS_goto (tgt := 29) dX1_isBone_25 (by decide) ?_
      exact BS_ireturn dX1_isBone_29 rfl
noncomputable def F_X1_isBone : FF := mk_F 2 F_X1_isBone_b0
theorem con_X1_isBone : Con_ yX1_isBone (ws_ yX1_isBone cX1_isBone 2 (some .boolean)) 1 22 F_X1_isBone := Con_of (by decide +kernel) bs_X1_isBone_b0
/-- LongerHalf.bone(II)I -/
abbrev M_X1_bone : MM := (yX1_bone, cX1_bone, (some .int), 2, 43, 4, [])
theorem pd_X1_bone : (yX1_bone.cls ≠ "java/lang/invoke/MethodHandle" ∧ yX1_bone.cls ≠ "java/lang/invoke/VarHandle") ∧ (parseMethodDescriptor yX1_bone.desc).map (fun d => d.parameters.length) = some 2 := ⟨⟨by decide +kernel, by decide +kernel⟩, by decide +kernel⟩
noncomputable def F_X1_bone_b129 : KK OO :=
  op_ald 0 <| op_push (.int 1) <| op_call 2 (f_kd 10 F_X1_no) kx_no <| op_iret .int
theorem bs_X1_bone_b129 : B_S M_X1_bone 129 (F_X1_bone_b129) z_O k_O := by
  unfold F_X1_bone_b129
  refine BS_aload_n dX1_bone_129 rfl ?_
  refine BS_iconst dX1_bone_130 (by decide) ?_
  refine BS_call (run_V dX1_bone_131 con_X1_no (ci := 0) rfl rfl q502 q504 qs3 q136 q505 pd_X1_no ⟨Nat.le_of_ble_eq_true rfl, Nat.le_of_ble_eq_true rfl⟩) BV_no ?_
  exact BS_ireturn dX1_bone_134 rfl
noncomputable def F_X1_bone_b64 : KK OO :=
  op_ald 0 <| op_gfr [10] 9 <| op_gfi [13] 41 <| op_ild 1 <| op_call 2 F_X1_has kx_no <| op_ieq (op_ald 3 <| op_call 1 (f_or (f_kd 18 F_X12_kind) (f_or (f_kd 19 F_X13_kind) (f_kd 20 F_X14_kind))) kx_no <| op_iret .int) (op_push (.int 2) <| op_iret .int)
theorem bs_X1_bone_b64 : B_S M_X1_bone 64 (F_X1_bone_b64) z_O k_O := by
  unfold F_X1_bone_b64
  refine BS_aload_n dX1_bone_64 rfl ?_
  refine BS_gfr f_X1_33 dX1_bone_65 ?_
  refine BS_gfi f_X1_152 dX1_bone_68 ?_
  refine BS_iload_n dX1_bone_71 rfl ?_
  refine BS_call (run_S dX1_bone_72 con_X1_has q1093 q1045 q136 q1046 pd_X1_has ⟨Nat.le_of_ble_eq_true rfl, Nat.le_of_ble_eq_true rfl⟩) BV_no ?_
  refine BS_if_eq (tgt := 82) dX1_bone_75 (by decide) ?_ ?_
  · refine BS_aload_n dX1_bone_82 rfl ?_
    refine BS_call ((run_or (run_U dX1_bone_83 con_X12_kind (ci := 8) rfl q1094 q1096 q1103 q1104 q155 q1105 (Or.inr q1095) pu_Bo_kind ⟨Nat.le_of_ble_eq_true rfl, Nat.le_of_ble_eq_true rfl⟩) (run_or (run_U dX1_bone_83 con_X13_kind (ci := 9) rfl q1094 q1096 q1100 q1101 q156 q1102 (Or.inr q1095) pu_Bo_kind ⟨Nat.le_of_ble_eq_true rfl, Nat.le_of_ble_eq_true rfl⟩) (run_U dX1_bone_83 con_X14_kind (ci := 10) rfl q1094 q1096 q1097 q1098 q157 q1099 (Or.inr q1095) pu_Bo_kind ⟨Nat.le_of_ble_eq_true rfl, Nat.le_of_ble_eq_true rfl⟩)))) BV_no ?_
    exact BS_ireturn dX1_bone_86 rfl
  · refine BS_iconst dX1_bone_78 (by decide) ?_
    refine BS_goto (tgt := 86) dX1_bone_79 (by decide) ?_
    exact BS_ireturn dX1_bone_86 rfl
noncomputable def F_X1_bone_b87 : KK OO :=
  op_ald 0 <| op_gfr [10] 9 <| op_gfr [13] 39 <| op_ild 1 <| op_iald 1 <| op_iret .int
theorem bs_X1_bone_b87 : B_S M_X1_bone 87 (F_X1_bone_b87) z_O k_O := by
  unfold F_X1_bone_b87
  refine BS_aload_n dX1_bone_87 rfl ?_
  refine BS_gfr f_X1_33 dX1_bone_88 ?_
  refine BS_gfr f_X1_163 dX1_bone_91 ?_
  refine BS_iload_n dX1_bone_94 rfl ?_
  refine BS_iaload dX1_bone_95 ?_
  exact BS_ireturn dX1_bone_96 rfl
noncomputable def F_X1_bone_b97 : KK OO :=
  op_ald 3 <| op_push (.int 0) <| op_call 2 (f_or (f_kd 18 F_X11_size) (f_or (f_kd 19 F_X11_size) (f_kd 20 F_X11_size))) kx_no <| op_iret .int
theorem bs_X1_bone_b97 : B_S M_X1_bone 97 (F_X1_bone_b97) z_O k_O := by
  unfold F_X1_bone_b97
  refine BS_aload_n dX1_bone_97 rfl ?_
  refine BS_iconst dX1_bone_98 (by decide) ?_
  refine BS_call ((run_or (run_U dX1_bone_99 con_X11_size (ci := 8) rfl q1106 q888 q891 q887 q154 q892 (Or.inl ⟨_, _, _, q887, q892⟩) pu_Bo_size ⟨Nat.le_of_ble_eq_true rfl, Nat.le_of_ble_eq_true rfl⟩) (run_or (run_U dX1_bone_99 con_X11_size (ci := 9) rfl q1106 q888 q890 q887 q154 q892 (Or.inl ⟨_, _, _, q887, q892⟩) pu_Bo_size ⟨Nat.le_of_ble_eq_true rfl, Nat.le_of_ble_eq_true rfl⟩) (run_U dX1_bone_99 con_X11_size (ci := 10) rfl q1106 q888 q889 q887 q154 q892 (Or.inl ⟨_, _, _, q887, q892⟩) pu_Bo_size ⟨Nat.le_of_ble_eq_true rfl, Nat.le_of_ble_eq_true rfl⟩)))) BV_no ?_
  exact BS_ireturn dX1_bone_102 rfl
noncomputable def F_X1_bone_b103 : KK OO :=
  op_ald 3 <| op_push (.int 1) <| op_call 2 (f_or (f_kd 18 F_X11_size) (f_or (f_kd 19 F_X11_size) (f_kd 20 F_X11_size))) kx_no <| op_iret .int
theorem bs_X1_bone_b103 : B_S M_X1_bone 103 (F_X1_bone_b103) z_O k_O := by
  unfold F_X1_bone_b103
  refine BS_aload_n dX1_bone_103 rfl ?_
  refine BS_iconst dX1_bone_104 (by decide) ?_
  refine BS_call ((run_or (run_U dX1_bone_105 con_X11_size (ci := 8) rfl q1106 q888 q891 q887 q154 q892 (Or.inl ⟨_, _, _, q887, q892⟩) pu_Bo_size ⟨Nat.le_of_ble_eq_true rfl, Nat.le_of_ble_eq_true rfl⟩) (run_or (run_U dX1_bone_105 con_X11_size (ci := 9) rfl q1106 q888 q890 q887 q154 q892 (Or.inl ⟨_, _, _, q887, q892⟩) pu_Bo_size ⟨Nat.le_of_ble_eq_true rfl, Nat.le_of_ble_eq_true rfl⟩) (run_U dX1_bone_105 con_X11_size (ci := 10) rfl q1106 q888 q889 q887 q154 q892 (Or.inl ⟨_, _, _, q887, q892⟩) pu_Bo_size ⟨Nat.le_of_ble_eq_true rfl, Nat.le_of_ble_eq_true rfl⟩)))) BV_no ?_
  exact BS_ireturn dX1_bone_108 rfl
noncomputable def F_X1_bone_b109 : KK OO :=
  op_ald 0 <| op_gfr [10] 9 <| op_gfi [13] 42 <| op_ild 1 <| op_call 2 F_X1_has kx_no <| op_ieq (op_push (.int 0) <| op_iret .int) (op_push (.int 1) <| op_iret .int)
theorem bs_X1_bone_b109 : B_S M_X1_bone 109 (F_X1_bone_b109) z_O k_O := by
  unfold F_X1_bone_b109
  refine BS_aload_n dX1_bone_109 rfl ?_
  refine BS_gfr f_X1_33 dX1_bone_110 ?_
  refine BS_gfi f_X1_166 dX1_bone_113 ?_
  refine BS_iload_n dX1_bone_116 rfl ?_
  refine BS_call (run_S dX1_bone_117 con_X1_has q1093 q1045 q136 q1046 pd_X1_has ⟨Nat.le_of_ble_eq_true rfl, Nat.le_of_ble_eq_true rfl⟩) BV_no ?_
  refine BS_if_eq (tgt := 127) dX1_bone_120 (by decide) ?_ ?_
  · refine BS_iconst dX1_bone_127 (by decide) ?_
    exact BS_ireturn dX1_bone_128 rfl
  · refine BS_iconst dX1_bone_123 (by decide) ?_
    refine BS_goto (tgt := 128) dX1_bone_124 (by decide) ?_
    exact BS_ireturn dX1_bone_128 rfl
noncomputable def F_X1_bone_b0 : KK OO :=
  op_ald 0 <| op_call 1 (f_kd 10 F_X1_anew) kx_no <| op_ald 0 <| op_ild 1 <| op_call 2 (f_kd 10 F_X1_isBone) kx_no <| op_ine (op_ald 0 <| op_gfr [10] 3 <| op_gfr [17] 68 <| op_ild 1 <| op_aald 8 <| op_ast 3 <| op_ild 2 <| op_sw [((0), F_X1_bone_b64), ((1), F_X1_bone_b87), ((2), F_X1_bone_b97), ((3), F_X1_bone_b103), ((4), F_X1_bone_b109)] (F_X1_bone_b129)) (op_ald 0 <| op_push (.int 1) <| op_call 2 (f_kd 10 F_X1_no) kx_no <| op_iret .int)
theorem bs_X1_bone_b0 : B_S M_X1_bone 0 (F_X1_bone_b0) z_O k_O := by
  unfold F_X1_bone_b0
  refine BS_aload_n dX1_bone_0 rfl ?_
  refine BS_call (run_V dX1_bone_1 con_X1_anew (ci := 0) rfl rfl q495 q497 qs2 q136 q498 pd_X1_anew ⟨Nat.le_of_ble_eq_true rfl, Nat.le_of_ble_eq_true rfl⟩) BV_no ?_
  refine BS_aload_n dX1_bone_4 rfl ?_
  refine BS_iload_n dX1_bone_5 rfl ?_
  refine BS_call (run_V dX1_bone_6 con_X1_isBone (ci := 0) rfl rfl q1089 q1091 qs29 q136 q1092 pd_X1_isBone ⟨Nat.le_of_ble_eq_true rfl, Nat.le_of_ble_eq_true rfl⟩) BV_no ?_
  refine BS_if_ne (tgt := 18) dX1_bone_9 (by decide) ?_ ?_
  · refine BS_aload_n dX1_bone_18 rfl ?_
    refine BS_gfr f_X1_108 dX1_bone_19 ?_
    refine BS_gfr f_X1_143 dX1_bone_22 ?_
    refine BS_iload_n dX1_bone_25 rfl ?_
    refine BS_aaload dX1_bone_26 (by decide) (by decide) (C := "LongerHalf$Bone") rfl ?_
    refine BS_astore_n dX1_bone_27 rfl (Nat.le_of_ble_eq_true rfl) ?_
    refine BS_iload_n dX1_bone_28 rfl ?_
    refine BS_tsw dX1_bone_29 (by decide) (td := 129) (by decide) ?_ ?_
    · exact bs_X1_bone_b129
    · exact ⟨by decide, ⟨64, by decide, by
        exact bs_X1_bone_b64⟩, ⟨by decide, ⟨87, by decide, by
        exact bs_X1_bone_b87⟩, ⟨by decide, ⟨97, by decide, by
        exact bs_X1_bone_b97⟩, ⟨by decide, ⟨103, by decide, by
        exact bs_X1_bone_b103⟩, ⟨by decide, ⟨109, by decide, by
        exact bs_X1_bone_b109⟩, trivial⟩⟩⟩⟩⟩
  · refine BS_aload_n dX1_bone_12 rfl ?_
    refine BS_iconst dX1_bone_13 (by decide) ?_
    refine BS_call (run_V dX1_bone_14 con_X1_no (ci := 0) rfl rfl q502 q504 qs3 q136 q505 pd_X1_no ⟨Nat.le_of_ble_eq_true rfl, Nat.le_of_ble_eq_true rfl⟩) BV_no ?_
    exact BS_ireturn dX1_bone_17 rfl
noncomputable def F_X1_bone : FF := mk_F 4 F_X1_bone_b0
theorem con_X1_bone : Con_ yX1_bone (ws_ yX1_bone cX1_bone 4 (some .int)) 2 43 F_X1_bone := Con_of (by decide +kernel) bs_X1_bone_b0
/-- LongerHalf.isPlace(III)Z -/
abbrev M_X1_isPlace : MM := (yX1_isPlace, cX1_isPlace, (some .boolean), 2, 43, 4, [])
theorem pd_X1_isPlace : (yX1_isPlace.cls ≠ "java/lang/invoke/MethodHandle" ∧ yX1_isPlace.cls ≠ "java/lang/invoke/VarHandle") ∧ (parseMethodDescriptor yX1_isPlace.desc).map (fun d => d.parameters.length) = some 3 := ⟨⟨by decide +kernel, by decide +kernel⟩, by decide +kernel⟩
noncomputable def F_X1_isPlace_b0 : KK OO :=
  op_ald 0 <| op_ild 1 <| op_call 2 (f_kd 10 F_X1_isBone) kx_no <| op_ieq (op_push (.int 0) <| op_iret .boolean) (op_ild 2 <| op_push (.int 0) <| op_push (.int 1) <| op_call 3 F_X1_in kx_no <| op_ieq (op_push (.int 0) <| op_iret .boolean) (op_ild 3 <| op_push (.int 0) <| op_ald 0 <| op_gfr [10] 3 <| op_gfr [17] 68 <| op_ild 1 <| op_aald 8 <| op_ild 2 <| op_call 2 (f_or (f_kd 18 F_X11_size) (f_or (f_kd 19 F_X11_size) (f_kd 20 F_X11_size))) kx_no <| op_push (.int 1) <| op_i2 (fun x y => x - y) <| op_call 3 F_X1_in kx_no <| op_ieq (op_push (.int 0) <| op_iret .boolean) (op_push (.int 1) <| op_iret .boolean)))
theorem bs_X1_isPlace_b0 : B_S M_X1_isPlace 0 (F_X1_isPlace_b0) z_O k_O := by
  unfold F_X1_isPlace_b0
  refine BS_aload_n dX1_isPlace_0 rfl ?_
  refine BS_iload_n dX1_isPlace_1 rfl ?_
  refine BS_call (run_V dX1_isPlace_2 con_X1_isBone (ci := 0) rfl rfl q1089 q1091 qs29 q136 q1092 pd_X1_isBone ⟨Nat.le_of_ble_eq_true rfl, Nat.le_of_ble_eq_true rfl⟩) BV_no ?_
  refine BS_if_eq (tgt := 44) dX1_isPlace_5 (by decide) ?_ ?_
  · refine BS_iconst dX1_isPlace_44 (by decide) ?_
    exact BS_ireturn dX1_isPlace_45 rfl
  · refine BS_iload_n dX1_isPlace_8 rfl ?_
    refine BS_iconst dX1_isPlace_9 (by decide) ?_
    refine BS_iconst dX1_isPlace_10 (by decide) ?_
    refine BS_call (run_S dX1_isPlace_11 con_X1_in q499 q500 q136 q501 pd_X1_in ⟨Nat.le_of_ble_eq_true rfl, Nat.le_of_ble_eq_true rfl⟩) BV_no ?_
    refine BS_if_eq (tgt := 44) dX1_isPlace_14 (by decide) ?_ ?_
    · refine BS_iconst dX1_isPlace_44 (by decide) ?_
      exact BS_ireturn dX1_isPlace_45 rfl
    · refine BS_iload_n dX1_isPlace_17 rfl ?_
      refine BS_iconst dX1_isPlace_18 (by decide) ?_
      refine BS_aload_n dX1_isPlace_19 rfl ?_
      refine BS_gfr f_X1_108 dX1_isPlace_20 ?_
      refine BS_gfr f_X1_143 dX1_isPlace_23 ?_
      refine BS_iload_n dX1_isPlace_26 rfl ?_
      refine BS_aaload dX1_isPlace_27 (by decide) (by decide) (C := "LongerHalf$Bone") rfl ?_
      refine BS_iload_n dX1_isPlace_28 rfl ?_
      refine BS_call ((run_or (run_U dX1_isPlace_29 con_X11_size (ci := 8) rfl q1106 q888 q891 q887 q154 q892 (Or.inl ⟨_, _, _, q887, q892⟩) pu_Bo_size ⟨Nat.le_of_ble_eq_true rfl, Nat.le_of_ble_eq_true rfl⟩) (run_or (run_U dX1_isPlace_29 con_X11_size (ci := 9) rfl q1106 q888 q890 q887 q154 q892 (Or.inl ⟨_, _, _, q887, q892⟩) pu_Bo_size ⟨Nat.le_of_ble_eq_true rfl, Nat.le_of_ble_eq_true rfl⟩) (run_U dX1_isPlace_29 con_X11_size (ci := 10) rfl q1106 q888 q889 q887 q154 q892 (Or.inl ⟨_, _, _, q887, q892⟩) pu_Bo_size ⟨Nat.le_of_ble_eq_true rfl, Nat.le_of_ble_eq_true rfl⟩)))) BV_no ?_
      refine BS_iconst dX1_isPlace_32 (by decide) ?_
      refine BS_isub dX1_isPlace_33 ?_
      refine BS_call (run_S dX1_isPlace_34 con_X1_in q499 q500 q136 q501 pd_X1_in ⟨Nat.le_of_ble_eq_true rfl, Nat.le_of_ble_eq_true rfl⟩) BV_no ?_
      refine BS_if_eq (tgt := 44) dX1_isPlace_37 (by decide) ?_ ?_
      · refine BS_iconst dX1_isPlace_44 (by decide) ?_
        exact BS_ireturn dX1_isPlace_45 rfl
      · refine BS_iconst dX1_isPlace_40 (by decide) ?_
        refine BS_goto (tgt := 45) dX1_isPlace_41 (by decide) ?_
        exact BS_ireturn dX1_isPlace_45 rfl
noncomputable def F_X1_isPlace : FF := mk_F 4 F_X1_isPlace_b0
theorem con_X1_isPlace : Con_ yX1_isPlace (ws_ yX1_isPlace cX1_isPlace 4 (some .boolean)) 2 43 F_X1_isPlace := Con_of (by decide +kernel) bs_X1_isPlace_b0
/-- LongerHalf.thick(III)I -/
abbrev M_X1_thick : MM := (yX1_thick, cX1_thick, (some .int), 3, 66, 4, [])
theorem pd_X1_thick : (yX1_thick.cls ≠ "java/lang/invoke/MethodHandle" ∧ yX1_thick.cls ≠ "java/lang/invoke/VarHandle") ∧ (parseMethodDescriptor yX1_thick.desc).map (fun d => d.parameters.length) = some 3 := ⟨⟨by decide +kernel, by decide +kernel⟩, by decide +kernel⟩
noncomputable def F_X1_thick_b0 : KK OO :=
  op_ald 0 <| op_call 1 (f_kd 10 F_X1_anew) kx_no <| op_ald 0 <| op_ild 1 <| op_ild 2 <| op_ild 3 <| op_call 4 (f_kd 10 F_X1_isPlace) kx_no <| op_ieq (op_ald 0 <| op_push (.int 1) <| op_call 2 (f_kd 10 F_X1_no) kx_no <| op_iret .int) (op_ald 0 <| op_gfr [10] 3 <| op_gfr [17] 68 <| op_ild 1 <| op_aald 8 <| op_ild 2 <| op_ild 3 <| op_call 3 (f_or (f_kd 18 F_X11_thick) (f_or (f_kd 19 F_X11_thick) (f_kd 20 F_X11_thick))) kx_no <| op_iret .int)
theorem bs_X1_thick_b0 : B_S M_X1_thick 0 (F_X1_thick_b0) z_O k_O := by
  unfold F_X1_thick_b0
  refine BS_aload_n dX1_thick_0 rfl ?_
  refine BS_call (run_V dX1_thick_1 con_X1_anew (ci := 0) rfl rfl q495 q497 qs2 q136 q498 pd_X1_anew ⟨Nat.le_of_ble_eq_true rfl, Nat.le_of_ble_eq_true rfl⟩) BV_no ?_
  refine BS_aload_n dX1_thick_4 rfl ?_
  refine BS_iload_n dX1_thick_5 rfl ?_
  refine BS_iload_n dX1_thick_6 rfl ?_
  refine BS_iload_n dX1_thick_7 rfl ?_
  refine BS_call (run_V dX1_thick_8 con_X1_isPlace (ci := 0) rfl rfl q1111 q1113 qs30 q136 q1114 pd_X1_isPlace ⟨Nat.le_of_ble_eq_true rfl, Nat.le_of_ble_eq_true rfl⟩) BV_no ?_
  refine BS_if_eq (tgt := 31) dX1_thick_11 (by decide) ?_ ?_
  · refine BS_aload_n dX1_thick_31 rfl ?_
    refine BS_iconst dX1_thick_32 (by decide) ?_
    refine BS_call (run_V dX1_thick_33 con_X1_no (ci := 0) rfl rfl q502 q504 qs3 q136 q505 pd_X1_no ⟨Nat.le_of_ble_eq_true rfl, Nat.le_of_ble_eq_true rfl⟩) BV_no ?_
    exact BS_ireturn dX1_thick_36 rfl
  · refine BS_aload_n dX1_thick_14 rfl ?_
    refine BS_gfr f_X1_108 dX1_thick_15 ?_
    refine BS_gfr f_X1_143 dX1_thick_18 ?_
    refine BS_iload_n dX1_thick_21 rfl ?_
    refine BS_aaload dX1_thick_22 (by decide) (by decide) (C := "LongerHalf$Bone") rfl ?_
    refine BS_iload_n dX1_thick_23 rfl ?_
    refine BS_iload_n dX1_thick_24 rfl ?_
    refine BS_call ((run_or (run_U dX1_thick_25 con_X11_thick (ci := 8) rfl q1115 q1117 q1120 q1116 q154 q1121 (Or.inl ⟨_, _, _, q1116, q1121⟩) pu_Bo_thick ⟨Nat.le_of_ble_eq_true rfl, Nat.le_of_ble_eq_true rfl⟩) (run_or (run_U dX1_thick_25 con_X11_thick (ci := 9) rfl q1115 q1117 q1119 q1116 q154 q1121 (Or.inl ⟨_, _, _, q1116, q1121⟩) pu_Bo_thick ⟨Nat.le_of_ble_eq_true rfl, Nat.le_of_ble_eq_true rfl⟩) (run_U dX1_thick_25 con_X11_thick (ci := 10) rfl q1115 q1117 q1118 q1116 q154 q1121 (Or.inl ⟨_, _, _, q1116, q1121⟩) pu_Bo_thick ⟨Nat.le_of_ble_eq_true rfl, Nat.le_of_ble_eq_true rfl⟩)))) BV_no ?_
    refine BS_goto (tgt := 36) dX1_thick_28 (by decide) ?_
    exact BS_ireturn dX1_thick_36 rfl
noncomputable def F_X1_thick : FF := mk_F 4 F_X1_thick_b0
theorem con_X1_thick : Con_ yX1_thick (ws_ yX1_thick cX1_thick 4 (some .int)) 3 66 F_X1_thick := Con_of (by decide +kernel) bs_X1_thick_b0
/-- LongerHalf.isPerson(I)Z -/
abbrev M_X1_isPerson : MM := (yX1_isPerson, cX1_isPerson, (some .boolean), 1, 22, 2, [])
theorem pd_X1_isPerson : (yX1_isPerson.cls ≠ "java/lang/invoke/MethodHandle" ∧ yX1_isPerson.cls ≠ "java/lang/invoke/VarHandle") ∧ (parseMethodDescriptor yX1_isPerson.desc).map (fun d => d.parameters.length) = some 1 := ⟨⟨by decide +kernel, by decide +kernel⟩, by decide +kernel⟩
noncomputable def F_X1_isPerson_b0 : KK OO :=
  op_ald 0 <| op_gfr [10] 3 <| op_ifn (op_push (.int 0) <| op_iret .boolean) (op_ild 1 <| op_push (.int 0) <| op_ald 0 <| op_gfr [10] 3 <| op_gfi [17] 78 <| op_push (.int 1) <| op_i2 (fun x y => x - y) <| op_call 3 F_X1_in kx_no <| op_ieq (op_push (.int 0) <| op_iret .boolean) (op_push (.int 1) <| op_iret .boolean))
theorem bs_X1_isPerson_b0 : B_S M_X1_isPerson 0 (F_X1_isPerson_b0) z_O k_O := by
  unfold F_X1_isPerson_b0
  refine BS_aload_n dX1_isPerson_0 rfl ?_
  refine BS_gfr f_X1_108 dX1_isPerson_1 ?_
  refine BS_ifnull (tgt := 28) dX1_isPerson_4 (by decide) ?_ ?_
  · refine BS_iconst dX1_isPerson_28 (by decide) ?_
    exact BS_ireturn dX1_isPerson_29 rfl
  · refine BS_iload_n dX1_isPerson_7 rfl ?_
    refine BS_iconst dX1_isPerson_8 (by decide) ?_
    refine BS_aload_n dX1_isPerson_9 rfl ?_
    refine BS_gfr f_X1_108 dX1_isPerson_10 ?_
    refine BS_gfi f_X1_133 dX1_isPerson_13 ?_
    refine BS_iconst dX1_isPerson_16 (by decide) ?_
    refine BS_isub dX1_isPerson_17 ?_
    refine BS_call (run_S dX1_isPerson_18 con_X1_in q499 q500 q136 q501 pd_X1_in ⟨Nat.le_of_ble_eq_true rfl, Nat.le_of_ble_eq_true rfl⟩) BV_no ?_
    refine BS_if_eq (tgt := 28) dX1_isPerson_21 (by decide) ?_ ?_
    · refine BS_iconst dX1_isPerson_28 (by decide) ?_
      exact BS_ireturn dX1_isPerson_29 rfl
    · refine BS_iconst dX1_isPerson_24 (by decide) ?_
      refine BS_goto (tgt := 29) dX1_isPerson_25 (by decide) ?_
      exact BS_ireturn dX1_isPerson_29 rfl
noncomputable def F_X1_isPerson : FF := mk_F 2 F_X1_isPerson_b0
theorem con_X1_isPerson : Con_ yX1_isPerson (ws_ yX1_isPerson cX1_isPerson 2 (some .boolean)) 1 22 F_X1_isPerson := Con_of (by decide +kernel) bs_X1_isPerson_b0
/-- LongerHalf.person(II)I -/
abbrev M_X1_person : MM := (yX1_person, cX1_person, (some .int), 2, 43, 4, [])
theorem pd_X1_person : (yX1_person.cls ≠ "java/lang/invoke/MethodHandle" ∧ yX1_person.cls ≠ "java/lang/invoke/VarHandle") ∧ (parseMethodDescriptor yX1_person.desc).map (fun d => d.parameters.length) = some 2 := ⟨⟨by decide +kernel, by decide +kernel⟩, by decide +kernel⟩
noncomputable def F_X1_person_b112 : KK OO :=
  op_ald 0 <| op_push (.int 1) <| op_call 2 (f_kd 10 F_X1_no) kx_no <| op_iret .int
theorem bs_X1_person_b112 : B_S M_X1_person 112 (F_X1_person_b112) z_O k_O := by
  unfold F_X1_person_b112
  refine BS_aload_n dX1_person_112 rfl ?_
  refine BS_iconst dX1_person_113 (by decide) ?_
  refine BS_call (run_V dX1_person_114 con_X1_no (ci := 0) rfl rfl q502 q504 qs3 q136 q505 pd_X1_no ⟨Nat.le_of_ble_eq_true rfl, Nat.le_of_ble_eq_true rfl⟩) BV_no ?_
  exact BS_ireturn dX1_person_117 rfl
noncomputable def F_X1_person_b72 : KK OO :=
  op_ald 3 <| op_call 1 (f_or (f_kd 21 F_X16_kind) (f_or (f_kd 22 F_X17_kind) (f_or (f_kd 23 F_X18_kind) (f_kd 24 F_X19_kind)))) kx_no <| op_iret .int
theorem bs_X1_person_b72 : B_S M_X1_person 72 (F_X1_person_b72) z_O k_O := by
  unfold F_X1_person_b72
  refine BS_aload_n dX1_person_72 rfl ?_
  refine BS_call ((run_or (run_U dX1_person_73 con_X16_kind (ci := 11) rfl q1130 q1132 q1142 q1143 q159 q1144 (Or.inr q1131) pu_Pe_kind ⟨Nat.le_of_ble_eq_true rfl, Nat.le_of_ble_eq_true rfl⟩) (run_or (run_U dX1_person_73 con_X17_kind (ci := 12) rfl q1130 q1132 q1139 q1140 q160 q1141 (Or.inr q1131) pu_Pe_kind ⟨Nat.le_of_ble_eq_true rfl, Nat.le_of_ble_eq_true rfl⟩) (run_or (run_U dX1_person_73 con_X18_kind (ci := 13) rfl q1130 q1132 q1136 q1137 q161 q1138 (Or.inr q1131) pu_Pe_kind ⟨Nat.le_of_ble_eq_true rfl, Nat.le_of_ble_eq_true rfl⟩) (run_U dX1_person_73 con_X19_kind (ci := 14) rfl q1130 q1132 q1133 q1134 q162 q1135 (Or.inr q1131) pu_Pe_kind ⟨Nat.le_of_ble_eq_true rfl, Nat.le_of_ble_eq_true rfl⟩))))) BV_no ?_
  exact BS_ireturn dX1_person_76 rfl
noncomputable def F_X1_person_b77 : KK OO :=
  op_ald 3 <| op_gfi [21, 22, 23, 24] 89 <| op_iret .int
theorem bs_X1_person_b77 : B_S M_X1_person 77 (F_X1_person_b77) z_O k_O := by
  unfold F_X1_person_b77
  refine BS_aload_n dX1_person_77 rfl ?_
  refine BS_gfi f_X1_183 dX1_person_78 ?_
  exact BS_ireturn dX1_person_81 rfl
noncomputable def F_X1_person_b82 : KK OO :=
  op_ald 3 <| op_gfi [21, 22, 23, 24] 90 <| op_iret .int
theorem bs_X1_person_b82 : B_S M_X1_person 82 (F_X1_person_b82) z_O k_O := by
  unfold F_X1_person_b82
  refine BS_aload_n dX1_person_82 rfl ?_
  refine BS_gfi f_X1_186 dX1_person_83 ?_
  exact BS_ireturn dX1_person_86 rfl
noncomputable def F_X1_person_b87 : KK OO :=
  op_ald 3 <| op_gfi [21, 22, 23, 24] 91 <| op_iret .int
theorem bs_X1_person_b87 : B_S M_X1_person 87 (F_X1_person_b87) z_O k_O := by
  unfold F_X1_person_b87
  refine BS_aload_n dX1_person_87 rfl ?_
  refine BS_gfi f_X1_189 dX1_person_88 ?_
  exact BS_ireturn dX1_person_91 rfl
noncomputable def F_X1_person_b92 : KK OO :=
  op_ald 3 <| op_gfi [21, 22, 23, 24] 92 <| op_iret .int
theorem bs_X1_person_b92 : B_S M_X1_person 92 (F_X1_person_b92) z_O k_O := by
  unfold F_X1_person_b92
  refine BS_aload_n dX1_person_92 rfl ?_
  refine BS_gfi f_X1_192 dX1_person_93 ?_
  exact BS_ireturn dX1_person_96 rfl
noncomputable def F_X1_person_b97 : KK OO :=
  op_ald 3 <| op_gfi [21, 22, 23, 24] 93 <| op_iret .int
theorem bs_X1_person_b97 : B_S M_X1_person 97 (F_X1_person_b97) z_O k_O := by
  unfold F_X1_person_b97
  refine BS_aload_n dX1_person_97 rfl ?_
  refine BS_gfi f_X1_195 dX1_person_98 ?_
  exact BS_ireturn dX1_person_101 rfl
noncomputable def F_X1_person_b102 : KK OO :=
  op_ald 0 <| op_gfr [10] 9 <| op_gfr [13] 40 <| op_ild 1 <| op_iald 1 <| op_iret .int
theorem bs_X1_person_b102 : B_S M_X1_person 102 (F_X1_person_b102) z_O k_O := by
  unfold F_X1_person_b102
  refine BS_aload_n dX1_person_102 rfl ?_
  refine BS_gfr f_X1_33 dX1_person_103 ?_
  refine BS_gfr f_X1_198 dX1_person_106 ?_
  refine BS_iload_n dX1_person_109 rfl ?_
  refine BS_iaload dX1_person_110 ?_
  exact BS_ireturn dX1_person_111 rfl
noncomputable def F_X1_person_b0 : KK OO :=
  op_ald 0 <| op_call 1 (f_kd 10 F_X1_anew) kx_no <| op_ald 0 <| op_ild 1 <| op_call 2 (f_kd 10 F_X1_isPerson) kx_no <| op_ine (op_ald 0 <| op_gfr [10] 3 <| op_gfr [17] 69 <| op_ild 1 <| op_aald 6 <| op_ast 3 <| op_ild 2 <| op_sw [((0), F_X1_person_b72), ((1), F_X1_person_b77), ((2), F_X1_person_b82), ((3), F_X1_person_b87), ((4), F_X1_person_b92), ((5), F_X1_person_b97), ((6), F_X1_person_b102)] (F_X1_person_b112)) (op_ald 0 <| op_push (.int 1) <| op_call 2 (f_kd 10 F_X1_no) kx_no <| op_iret .int)
theorem bs_X1_person_b0 : B_S M_X1_person 0 (F_X1_person_b0) z_O k_O := by
  unfold F_X1_person_b0
  refine BS_aload_n dX1_person_0 rfl ?_
  refine BS_call (run_V dX1_person_1 con_X1_anew (ci := 0) rfl rfl q495 q497 qs2 q136 q498 pd_X1_anew ⟨Nat.le_of_ble_eq_true rfl, Nat.le_of_ble_eq_true rfl⟩) BV_no ?_
  refine BS_aload_n dX1_person_4 rfl ?_
  refine BS_iload_n dX1_person_5 rfl ?_
  refine BS_call (run_V dX1_person_6 con_X1_isPerson (ci := 0) rfl rfl q1126 q1128 qs31 q136 q1129 pd_X1_isPerson ⟨Nat.le_of_ble_eq_true rfl, Nat.le_of_ble_eq_true rfl⟩) BV_no ?_
  refine BS_if_ne (tgt := 18) dX1_person_9 (by decide) ?_ ?_
  · refine BS_aload_n dX1_person_18 rfl ?_
    refine BS_gfr f_X1_108 dX1_person_19 ?_
    refine BS_gfr f_X1_176 dX1_person_22 ?_
    refine BS_iload_n dX1_person_25 rfl ?_
    refine BS_aaload dX1_person_26 (by decide) (by decide) (C := "LongerHalf$Person") rfl ?_
    refine BS_astore_n dX1_person_27 rfl (Nat.le_of_ble_eq_true rfl) ?_
    refine BS_iload_n dX1_person_28 rfl ?_
    refine BS_tsw dX1_person_29 (by decide) (td := 112) (by decide) ?_ ?_
    · exact bs_X1_person_b112
    · exact ⟨by decide, ⟨72, by decide, by
        exact bs_X1_person_b72⟩, ⟨by decide, ⟨77, by decide, by
        exact bs_X1_person_b77⟩, ⟨by decide, ⟨82, by decide, by
        exact bs_X1_person_b82⟩, ⟨by decide, ⟨87, by decide, by
        exact bs_X1_person_b87⟩, ⟨by decide, ⟨92, by decide, by
        exact bs_X1_person_b92⟩, ⟨by decide, ⟨97, by decide, by
        exact bs_X1_person_b97⟩, ⟨by decide, ⟨102, by decide, by
        exact bs_X1_person_b102⟩, trivial⟩⟩⟩⟩⟩⟩⟩
  · refine BS_aload_n dX1_person_12 rfl ?_
    refine BS_iconst dX1_person_13 (by decide) ?_
    refine BS_call (run_V dX1_person_14 con_X1_no (ci := 0) rfl rfl q502 q504 qs3 q136 q505 pd_X1_no ⟨Nat.le_of_ble_eq_true rfl, Nat.le_of_ble_eq_true rfl⟩) BV_no ?_
    exact BS_ireturn dX1_person_17 rfl
noncomputable def F_X1_person : FF := mk_F 4 F_X1_person_b0
theorem con_X1_person : Con_ yX1_person (ws_ yX1_person cX1_person 4 (some .int)) 2 43 F_X1_person := Con_of (by decide +kernel) bs_X1_person_b0
/-- LongerHalf.layDried(II)LLongerHalf$Pull; -/
abbrev M_X1_layDried : MM := (yX1_layDried, cX1_layDried, (some (.object "LongerHalf$Pull")), 1, 24, 3, [])
theorem pd_X1_layDried : (yX1_layDried.cls ≠ "java/lang/invoke/MethodHandle" ∧ yX1_layDried.cls ≠ "java/lang/invoke/VarHandle") ∧ (parseMethodDescriptor yX1_layDried.desc).map (fun d => d.parameters.length) = some 2 := ⟨⟨by decide +kernel, by decide +kernel⟩, by decide +kernel⟩
noncomputable def F_X1_layDried_b0 : KK OO :=
  op_ald 0 <| op_gfr [10] 12 <| op_ald 0 <| op_gfr [10] 3 <| op_ald 0 <| op_gfr [10] 3 <| op_gfr [17] 68 <| op_ild 1 <| op_aald 8 <| op_ild 2 <| op_ald 0 <| op_gfr [10] 9 <| op_gfi [13] 41 <| op_ild 1 <| op_call 2 F_X1_has kx_no <| op_call 5 (f_kd 14 F_X5_lay) kx_no <| op_ald 0 <| op_gfr [10] 12 <| op_aret
theorem bs_X1_layDried_b0 : B_S M_X1_layDried 0 (F_X1_layDried_b0) z_O k_O := by
  unfold F_X1_layDried_b0
  refine BS_aload_n dX1_layDried_0 rfl ?_
  refine BS_gfr f_X1_46 dX1_layDried_1 ?_
  refine BS_aload_n dX1_layDried_4 rfl ?_
  refine BS_gfr f_X1_108 dX1_layDried_5 ?_
  refine BS_aload_n dX1_layDried_8 rfl ?_
  refine BS_gfr f_X1_108 dX1_layDried_9 ?_
  refine BS_gfr f_X1_143 dX1_layDried_12 ?_
  refine BS_iload_n dX1_layDried_15 rfl ?_
  refine BS_aaload dX1_layDried_16 (by decide) (by decide) (C := "LongerHalf$Bone") rfl ?_
  refine BS_iload_n dX1_layDried_17 rfl ?_
  refine BS_aload_n dX1_layDried_18 rfl ?_
  refine BS_gfr f_X1_33 dX1_layDried_19 ?_
  refine BS_gfi f_X1_152 dX1_layDried_22 ?_
  refine BS_iload_n dX1_layDried_25 rfl ?_
  refine BS_call (run_S dX1_layDried_26 con_X1_has q1093 q1045 q136 q1046 pd_X1_has ⟨Nat.le_of_ble_eq_true rfl, Nat.le_of_ble_eq_true rfl⟩) BV_no ?_
  refine BS_call (run_V dX1_layDried_29 con_X5_lay (ci := 4) rfl rfl q1157 q1158 q1159 q143 q1160 pd_X5_lay ⟨Nat.le_of_ble_eq_true rfl, Nat.le_of_ble_eq_true rfl⟩) BV_no ?_
  refine BS_aload_n dX1_layDried_32 rfl ?_
  refine BS_gfr f_X1_46 dX1_layDried_33 ?_
  exact BS_areturn dX1_layDried_36 rfl (Or.inl ⟨_, rfl⟩)
noncomputable def F_X1_layDried : FF := mk_F 3 F_X1_layDried_b0
theorem con_X1_layDried : Con_ yX1_layDried (ws_ yX1_layDried cX1_layDried 3 (some (.object "LongerHalf$Pull"))) 1 24 F_X1_layDried := Con_of (by decide +kernel) bs_X1_layDried_b0
/-- LongerHalf.lay(I)LLongerHalf$Pull; -/
abbrev M_X1_lay : MM := (yX1_lay, cX1_lay, (some (.object "LongerHalf$Pull")), 2, 46, 2, [])
theorem pd_X1_lay : (yX1_lay.cls ≠ "java/lang/invoke/MethodHandle" ∧ yX1_lay.cls ≠ "java/lang/invoke/VarHandle") ∧ (parseMethodDescriptor yX1_lay.desc).map (fun d => d.parameters.length) = some 1 := ⟨⟨by decide +kernel, by decide +kernel⟩, by decide +kernel⟩
noncomputable def F_X1_lay_b0 : KK OO :=
  op_ald 0 <| op_ild 1 <| op_ald 0 <| op_gfr [10] 9 <| op_gfr [13] 39 <| op_ild 1 <| op_iald 1 <| op_call 3 (f_kd 10 F_X1_layDried) kx_no <| op_aret
theorem bs_X1_lay_b0 : B_S M_X1_lay 0 (F_X1_lay_b0) z_O k_O := by
  unfold F_X1_lay_b0
  refine BS_aload_n dX1_lay_0 rfl ?_
  refine BS_iload_n dX1_lay_1 rfl ?_
  refine BS_aload_n dX1_lay_2 rfl ?_
  refine BS_gfr f_X1_33 dX1_lay_3 ?_
  refine BS_gfr f_X1_163 dX1_lay_6 ?_
  refine BS_iload_n dX1_lay_9 rfl ?_
  refine BS_iaload dX1_lay_10 ?_
  refine BS_call (run_V dX1_lay_11 con_X1_layDried (ci := 0) rfl rfl q1153 q1155 qs33 q136 q1156 pd_X1_layDried ⟨Nat.le_of_ble_eq_true rfl, Nat.le_of_ble_eq_true rfl⟩) BV_no ?_
  exact BS_areturn dX1_lay_14 rfl (Or.inl ⟨_, rfl⟩)
noncomputable def F_X1_lay : FF := mk_F 2 F_X1_lay_b0
theorem con_X1_lay : Con_ yX1_lay (ws_ yX1_lay cX1_lay 2 (some (.object "LongerHalf$Pull"))) 2 46 F_X1_lay := Con_of (by decide +kernel) bs_X1_lay_b0
/-- LongerHalf.strength(IIII)I -/
abbrev M_X1_strength : MM := (yX1_strength, cX1_strength, (some .int), 3, 67, 5, [])
theorem pd_X1_strength : (yX1_strength.cls ≠ "java/lang/invoke/MethodHandle" ∧ yX1_strength.cls ≠ "java/lang/invoke/VarHandle") ∧ (parseMethodDescriptor yX1_strength.desc).map (fun d => d.parameters.length) = some 4 := ⟨⟨by decide +kernel, by decide +kernel⟩, by decide +kernel⟩
noncomputable def F_X1_strength_b23 : KK OO :=
  op_ald 0 <| op_push (.int 1) <| op_call 2 (f_kd 10 F_X1_no) kx_no <| op_iret .int
theorem bs_X1_strength_b23 : B_S M_X1_strength 23 (F_X1_strength_b23) z_O k_O := by
  unfold F_X1_strength_b23
  refine BS_aload_n dX1_strength_23 rfl ?_
  refine BS_iconst dX1_strength_24 (by decide) ?_
  refine BS_call (run_V dX1_strength_25 con_X1_no (ci := 0) rfl rfl q502 q504 qs3 q136 q505 pd_X1_no ⟨Nat.le_of_ble_eq_true rfl, Nat.le_of_ble_eq_true rfl⟩) BV_no ?_
  exact BS_ireturn dX1_strength_28 rfl
noncomputable def F_X1_strength_b0 : KK OO :=
  op_ald 0 <| op_call 1 (f_kd 10 F_X1_anew) kx_no <| op_ald 0 <| op_ild 1 <| op_ild 2 <| op_ild 3 <| op_call 4 (f_kd 10 F_X1_isPlace) kx_no <| op_ieq (F_X1_strength_b23) (op_ald 0 <| op_ild 4 <| op_call 2 (f_kd 10 F_X1_isPerson) kx_no <| op_ine (op_ald 0 <| op_ild 1 <| op_call 2 (f_kd 10 F_X1_lay) kx_no <| op_ild 2 <| op_ild 3 <| op_ald 0 <| op_gfr [10] 3 <| op_gfr [17] 69 <| op_ild 4 <| op_aald 6 <| op_call 4 (f_kd 14 F_X5_strength) kx_no <| op_iret .int) (F_X1_strength_b23))
theorem bs_X1_strength_b0 : B_S M_X1_strength 0 (F_X1_strength_b0) z_O k_O := by
  unfold F_X1_strength_b0
  refine BS_aload_n dX1_strength_0 rfl ?_
  refine BS_call (run_V dX1_strength_1 con_X1_anew (ci := 0) rfl rfl q495 q497 qs2 q136 q498 pd_X1_anew ⟨Nat.le_of_ble_eq_true rfl, Nat.le_of_ble_eq_true rfl⟩) BV_no ?_
  refine BS_aload_n dX1_strength_4 rfl ?_
  refine BS_iload_n dX1_strength_5 rfl ?_
  refine BS_iload_n dX1_strength_6 rfl ?_
  refine BS_iload_n dX1_strength_7 rfl ?_
  refine BS_call (run_V dX1_strength_8 con_X1_isPlace (ci := 0) rfl rfl q1111 q1113 qs30 q136 q1114 pd_X1_isPlace ⟨Nat.le_of_ble_eq_true rfl, Nat.le_of_ble_eq_true rfl⟩) BV_no ?_
  refine BS_if_eq (tgt := 23) dX1_strength_11 (by decide) ?_ ?_
  · exact bs_X1_strength_b23
  · refine BS_aload_n dX1_strength_14 rfl ?_
    refine BS_iload dX1_strength_15 ?_
    refine BS_call (run_V dX1_strength_17 con_X1_isPerson (ci := 0) rfl rfl q1126 q1128 qs31 q136 q1129 pd_X1_isPerson ⟨Nat.le_of_ble_eq_true rfl, Nat.le_of_ble_eq_true rfl⟩) BV_no ?_
    refine BS_if_ne (tgt := 29) dX1_strength_20 (by decide) ?_ ?_
    · refine BS_aload_n dX1_strength_29 rfl ?_
      refine BS_iload_n dX1_strength_30 rfl ?_
      refine BS_call (run_V dX1_strength_31 con_X1_lay (ci := 0) rfl rfl q1149 q1151 qs32 q136 q1152 pd_X1_lay ⟨Nat.le_of_ble_eq_true rfl, Nat.le_of_ble_eq_true rfl⟩) BV_no ?_
      refine BS_iload_n dX1_strength_34 rfl ?_
      refine BS_iload_n dX1_strength_35 rfl ?_
      refine BS_aload_n dX1_strength_36 rfl ?_
      refine BS_gfr f_X1_108 dX1_strength_37 ?_
      refine BS_gfr f_X1_176 dX1_strength_40 ?_
      refine BS_iload dX1_strength_43 ?_
      refine BS_aaload dX1_strength_45 (by decide) (by decide) (C := "LongerHalf$Person") rfl ?_
      refine BS_call (run_V dX1_strength_46 con_X5_strength (ci := 4) rfl rfl q1161 q1162 q1163 q143 q1164 pd_X5_strength ⟨Nat.le_of_ble_eq_true rfl, Nat.le_of_ble_eq_true rfl⟩) BV_no ?_
      exact BS_ireturn dX1_strength_49 rfl
    · exact bs_X1_strength_b23
noncomputable def F_X1_strength : FF := mk_F 5 F_X1_strength_b0
theorem con_X1_strength : Con_ yX1_strength (ws_ yX1_strength cX1_strength 5 (some .int)) 3 67 F_X1_strength := Con_of (by decide +kernel) bs_X1_strength_b0
/-- LongerHalf.layPull(IIIIII)LLongerHalf$Pull; -/
abbrev M_X1_layPull : MM := (yX1_layPull, cX1_layPull, (some (.object "LongerHalf$Pull")), 3, 67, 7, [])
theorem pd_X1_layPull : (yX1_layPull.cls ≠ "java/lang/invoke/MethodHandle" ∧ yX1_layPull.cls ≠ "java/lang/invoke/VarHandle") ∧ (parseMethodDescriptor yX1_layPull.desc).map (fun d => d.parameters.length) = some 6 := ⟨⟨by decide +kernel, by decide +kernel⟩, by decide +kernel⟩
noncomputable def F_X1_layPull_b0 : KK OO :=
  op_ald 0 <| op_ild 1 <| op_call 2 (f_kd 10 F_X1_lay) kx_no <| op_ald 0 <| op_gfr [10] 3 <| op_gfr [17] 69 <| op_ild 2 <| op_aald 6 <| op_ild 3 <| op_ald 0 <| op_gfr [10] 3 <| op_gfr [17] 69 <| op_ild 4 <| op_aald 6 <| op_ild 5 <| op_ild 6 <| op_call 6 (f_kd 14 F_X5_hold) kx_no <| op_ald 0 <| op_gfr [10] 12 <| op_aret
theorem bs_X1_layPull_b0 : B_S M_X1_layPull 0 (F_X1_layPull_b0) z_O k_O := by
  unfold F_X1_layPull_b0
  refine BS_aload_n dX1_layPull_0 rfl ?_
  refine BS_iload_n dX1_layPull_1 rfl ?_
  refine BS_call (run_V dX1_layPull_2 con_X1_lay (ci := 0) rfl rfl q1149 q1151 qs32 q136 q1152 pd_X1_lay ⟨Nat.le_of_ble_eq_true rfl, Nat.le_of_ble_eq_true rfl⟩) BV_no ?_
  refine BS_aload_n dX1_layPull_5 rfl ?_
  refine BS_gfr f_X1_108 dX1_layPull_6 ?_
  refine BS_gfr f_X1_176 dX1_layPull_9 ?_
  refine BS_iload_n dX1_layPull_12 rfl ?_
  refine BS_aaload dX1_layPull_13 (by decide) (by decide) (C := "LongerHalf$Person") rfl ?_
  refine BS_iload_n dX1_layPull_14 rfl ?_
  refine BS_aload_n dX1_layPull_15 rfl ?_
  refine BS_gfr f_X1_108 dX1_layPull_16 ?_
  refine BS_gfr f_X1_176 dX1_layPull_19 ?_
  refine BS_iload dX1_layPull_22 ?_
  refine BS_aaload dX1_layPull_24 (by decide) (by decide) (C := "LongerHalf$Person") rfl ?_
  refine BS_iload dX1_layPull_25 ?_
  refine BS_iload dX1_layPull_27 ?_
  refine BS_call (run_V dX1_layPull_29 con_X5_hold (ci := 4) rfl rfl q1196 q1197 q1198 q143 q1199 pd_X5_hold ⟨Nat.le_of_ble_eq_true rfl, Nat.le_of_ble_eq_true rfl⟩) BV_no ?_
  refine BS_aload_n dX1_layPull_32 rfl ?_
  refine BS_gfr f_X1_46 dX1_layPull_33 ?_
  exact BS_areturn dX1_layPull_36 rfl (Or.inl ⟨_, rfl⟩)
noncomputable def F_X1_layPull : FF := mk_F 7 F_X1_layPull_b0
theorem con_X1_layPull : Con_ yX1_layPull (ws_ yX1_layPull cX1_layPull 7 (some (.object "LongerHalf$Pull"))) 3 67 F_X1_layPull := Con_of (by decide +kernel) bs_X1_layPull_b0
/-- LongerHalf.holdWhy(IIII)I -/
abbrev M_X1_holdWhy : MM := (yX1_holdWhy, cX1_holdWhy, (some .int), 1, 22, 5, [])
theorem pd_X1_holdWhy : (yX1_holdWhy.cls ≠ "java/lang/invoke/MethodHandle" ∧ yX1_holdWhy.cls ≠ "java/lang/invoke/VarHandle") ∧ (parseMethodDescriptor yX1_holdWhy.desc).map (fun d => d.parameters.length) = some 4 := ⟨⟨by decide +kernel, by decide +kernel⟩, by decide +kernel⟩
noncomputable def F_X1_holdWhy_b0 : KK OO :=
  op_ild 2 <| op_push (.int 1) <| op_ald 0 <| op_gfr [10] 3 <| op_gfr [17] 68 <| op_ild 1 <| op_aald 8 <| op_push (.int 0) <| op_call 2 (f_or (f_kd 18 F_X11_size) (f_or (f_kd 19 F_X11_size) (f_kd 20 F_X11_size))) kx_no <| op_call 3 F_X1_in kx_no <| op_ieq (op_push (.int 2) <| op_iret .int) (op_ild 3 <| op_push (.int 1) <| op_ald 0 <| op_gfr [10] 3 <| op_gfr [17] 68 <| op_ild 1 <| op_aald 8 <| op_push (.int 1) <| op_call 2 (f_or (f_kd 18 F_X11_size) (f_or (f_kd 19 F_X11_size) (f_kd 20 F_X11_size))) kx_no <| op_call 3 F_X1_in kx_no <| op_ieq (op_push (.int 2) <| op_iret .int) (op_ild 4 <| op_push (.int 0) <| op_push (.int 3) <| op_call 3 F_X1_in kx_no <| op_ieq (op_push (.int 2) <| op_iret .int) (op_push (.int 0) <| op_iret .int)))
theorem bs_X1_holdWhy_b0 : B_S M_X1_holdWhy 0 (F_X1_holdWhy_b0) z_O k_O := by
  unfold F_X1_holdWhy_b0
  refine BS_iload_n dX1_holdWhy_0 rfl ?_
  refine BS_iconst dX1_holdWhy_1 (by decide) ?_
  refine BS_aload_n dX1_holdWhy_2 rfl ?_
  refine BS_gfr f_X1_108 dX1_holdWhy_3 ?_
  refine BS_gfr f_X1_143 dX1_holdWhy_6 ?_
  refine BS_iload_n dX1_holdWhy_9 rfl ?_
  refine BS_aaload dX1_holdWhy_10 (by decide) (by decide) (C := "LongerHalf$Bone") rfl ?_
  refine BS_iconst dX1_holdWhy_11 (by decide) ?_
  refine BS_call ((run_or (run_U dX1_holdWhy_12 con_X11_size (ci := 8) rfl q1106 q888 q891 q887 q154 q892 (Or.inl ⟨_, _, _, q887, q892⟩) pu_Bo_size ⟨Nat.le_of_ble_eq_true rfl, Nat.le_of_ble_eq_true rfl⟩) (run_or (run_U dX1_holdWhy_12 con_X11_size (ci := 9) rfl q1106 q888 q890 q887 q154 q892 (Or.inl ⟨_, _, _, q887, q892⟩) pu_Bo_size ⟨Nat.le_of_ble_eq_true rfl, Nat.le_of_ble_eq_true rfl⟩) (run_U dX1_holdWhy_12 con_X11_size (ci := 10) rfl q1106 q888 q889 q887 q154 q892 (Or.inl ⟨_, _, _, q887, q892⟩) pu_Bo_size ⟨Nat.le_of_ble_eq_true rfl, Nat.le_of_ble_eq_true rfl⟩)))) BV_no ?_
  refine BS_call (run_S dX1_holdWhy_15 con_X1_in q499 q500 q136 q501 pd_X1_in ⟨Nat.le_of_ble_eq_true rfl, Nat.le_of_ble_eq_true rfl⟩) BV_no ?_
  refine BS_if_eq (tgt := 56) dX1_holdWhy_18 (by decide) ?_ ?_
  · refine BS_iconst dX1_holdWhy_56 (by decide) ?_
    exact BS_ireturn dX1_holdWhy_57 rfl
  · refine BS_iload_n dX1_holdWhy_21 rfl ?_
    refine BS_iconst dX1_holdWhy_22 (by decide) ?_
    refine BS_aload_n dX1_holdWhy_23 rfl ?_
    refine BS_gfr f_X1_108 dX1_holdWhy_24 ?_
    refine BS_gfr f_X1_143 dX1_holdWhy_27 ?_
    refine BS_iload_n dX1_holdWhy_30 rfl ?_
    refine BS_aaload dX1_holdWhy_31 (by decide) (by decide) (C := "LongerHalf$Bone") rfl ?_
    refine BS_iconst dX1_holdWhy_32 (by decide) ?_
    refine BS_call ((run_or (run_U dX1_holdWhy_33 con_X11_size (ci := 8) rfl q1106 q888 q891 q887 q154 q892 (Or.inl ⟨_, _, _, q887, q892⟩) pu_Bo_size ⟨Nat.le_of_ble_eq_true rfl, Nat.le_of_ble_eq_true rfl⟩) (run_or (run_U dX1_holdWhy_33 con_X11_size (ci := 9) rfl q1106 q888 q890 q887 q154 q892 (Or.inl ⟨_, _, _, q887, q892⟩) pu_Bo_size ⟨Nat.le_of_ble_eq_true rfl, Nat.le_of_ble_eq_true rfl⟩) (run_U dX1_holdWhy_33 con_X11_size (ci := 10) rfl q1106 q888 q889 q887 q154 q892 (Or.inl ⟨_, _, _, q887, q892⟩) pu_Bo_size ⟨Nat.le_of_ble_eq_true rfl, Nat.le_of_ble_eq_true rfl⟩)))) BV_no ?_
    refine BS_call (run_S dX1_holdWhy_36 con_X1_in q499 q500 q136 q501 pd_X1_in ⟨Nat.le_of_ble_eq_true rfl, Nat.le_of_ble_eq_true rfl⟩) BV_no ?_
    refine BS_if_eq (tgt := 56) dX1_holdWhy_39 (by decide) ?_ ?_
    · refine BS_iconst dX1_holdWhy_56 (by decide) ?_
      exact BS_ireturn dX1_holdWhy_57 rfl
    · refine BS_iload dX1_holdWhy_42 ?_
      refine BS_iconst dX1_holdWhy_44 (by decide) ?_
      refine BS_iconst dX1_holdWhy_45 (by decide) ?_
      refine BS_call (run_S dX1_holdWhy_46 con_X1_in q499 q500 q136 q501 pd_X1_in ⟨Nat.le_of_ble_eq_true rfl, Nat.le_of_ble_eq_true rfl⟩) BV_no ?_
      refine BS_if_eq (tgt := 56) dX1_holdWhy_49 (by decide) ?_ ?_
      · refine BS_iconst dX1_holdWhy_56 (by decide) ?_
        exact BS_ireturn dX1_holdWhy_57 rfl
      · refine BS_iconst dX1_holdWhy_52 (by decide) ?_
        refine BS_goto (tgt := 57) dX1_holdWhy_53 (by decide) ?_
        exact BS_ireturn dX1_holdWhy_57 rfl
noncomputable def F_X1_holdWhy : FF := mk_F 5 F_X1_holdWhy_b0
theorem con_X1_holdWhy : Con_ yX1_holdWhy (ws_ yX1_holdWhy cX1_holdWhy 5 (some .int)) 1 22 F_X1_holdWhy := Con_of (by decide +kernel) bs_X1_holdWhy_b0
/-- LongerHalf.isPair(II)Z -/
abbrev M_X1_isPair : MM := (yX1_isPair, cX1_isPair, (some .boolean), 2, 43, 3, [])
theorem pd_X1_isPair : (yX1_isPair.cls ≠ "java/lang/invoke/MethodHandle" ∧ yX1_isPair.cls ≠ "java/lang/invoke/VarHandle") ∧ (parseMethodDescriptor yX1_isPair.desc).map (fun d => d.parameters.length) = some 2 := ⟨⟨by decide +kernel, by decide +kernel⟩, by decide +kernel⟩
noncomputable def F_X1_isPair_b0 : KK OO :=
  op_ald 0 <| op_ild 1 <| op_call 2 (f_kd 10 F_X1_isPerson) kx_no <| op_ieq (op_push (.int 0) <| op_iret .boolean) (op_ald 0 <| op_ild 2 <| op_call 2 (f_kd 10 F_X1_isPerson) kx_no <| op_ieq (op_push (.int 0) <| op_iret .boolean) (op_ild 1 <| op_ild 2 <| op_ceq (op_push (.int 0) <| op_iret .boolean) (op_push (.int 1) <| op_iret .boolean)))
theorem bs_X1_isPair_b0 : B_S M_X1_isPair 0 (F_X1_isPair_b0) z_O k_O := by
  unfold F_X1_isPair_b0
  refine BS_aload_n dX1_isPair_0 rfl ?_
  refine BS_iload_n dX1_isPair_1 rfl ?_
  refine BS_call (run_V dX1_isPair_2 con_X1_isPerson (ci := 0) rfl rfl q1126 q1128 qs31 q136 q1129 pd_X1_isPerson ⟨Nat.le_of_ble_eq_true rfl, Nat.le_of_ble_eq_true rfl⟩) BV_no ?_
  refine BS_if_eq (tgt := 25) dX1_isPair_5 (by decide) ?_ ?_
  · refine BS_iconst dX1_isPair_25 (by decide) ?_
    exact BS_ireturn dX1_isPair_26 rfl
  · refine BS_aload_n dX1_isPair_8 rfl ?_
    refine BS_iload_n dX1_isPair_9 rfl ?_
    refine BS_call (run_V dX1_isPair_10 con_X1_isPerson (ci := 0) rfl rfl q1126 q1128 qs31 q136 q1129 pd_X1_isPerson ⟨Nat.le_of_ble_eq_true rfl, Nat.le_of_ble_eq_true rfl⟩) BV_no ?_
    refine BS_if_eq (tgt := 25) dX1_isPair_13 (by decide) ?_ ?_
    · refine BS_iconst dX1_isPair_25 (by decide) ?_
      exact BS_ireturn dX1_isPair_26 rfl
    · refine BS_iload_n dX1_isPair_16 rfl ?_
      refine BS_iload_n dX1_isPair_17 rfl ?_
      refine BS_icmp_eq (tgt := 25) dX1_isPair_18 (by decide) ?_ ?_
      · refine BS_iconst dX1_isPair_25 (by decide) ?_
        exact BS_ireturn dX1_isPair_26 rfl
      · refine BS_iconst dX1_isPair_21 (by decide) ?_
        refine BS_goto (tgt := 26) dX1_isPair_22 (by decide) ?_
        exact BS_ireturn dX1_isPair_26 rfl
noncomputable def F_X1_isPair : FF := mk_F 3 F_X1_isPair_b0
theorem con_X1_isPair : Con_ yX1_isPair (ws_ yX1_isPair cX1_isPair 3 (some .boolean)) 2 43 F_X1_isPair := Con_of (by decide +kernel) bs_X1_isPair_b0
/-- LongerHalf.pullWhy(IIIIII)I -/
abbrev M_X1_pullWhy : MM := (yX1_pullWhy, cX1_pullWhy, (some .int), 3, 65, 7, [])
theorem pd_X1_pullWhy : (yX1_pullWhy.cls ≠ "java/lang/invoke/MethodHandle" ∧ yX1_pullWhy.cls ≠ "java/lang/invoke/VarHandle") ∧ (parseMethodDescriptor yX1_pullWhy.desc).map (fun d => d.parameters.length) = some 6 := ⟨⟨by decide +kernel, by decide +kernel⟩, by decide +kernel⟩
noncomputable def F_X1_pullWhy_b18 : KK OO :=
  op_push (.int 1) <| op_iret .int
theorem bs_X1_pullWhy_b18 : B_S M_X1_pullWhy 18 (F_X1_pullWhy_b18) z_O k_O := by
  unfold F_X1_pullWhy_b18
  refine BS_iconst dX1_pullWhy_18 (by decide) ?_
  refine BS_goto (tgt := 32) dX1_pullWhy_19 (by decide) ?_
  exact BS_ireturn dX1_pullWhy_32 rfl
noncomputable def F_X1_pullWhy_b0 : KK OO :=
  op_ald 0 <| op_ild 1 <| op_call 2 (f_kd 10 F_X1_isBone) kx_no <| op_ieq (F_X1_pullWhy_b18) (op_ald 0 <| op_ild 2 <| op_ild 4 <| op_call 3 (f_kd 10 F_X1_isPair) kx_no <| op_ine (op_ald 0 <| op_ild 1 <| op_ild 3 <| op_ild 5 <| op_ild 6 <| op_call 5 (f_kd 10 F_X1_holdWhy) kx_no <| op_iret .int) (F_X1_pullWhy_b18))
theorem bs_X1_pullWhy_b0 : B_S M_X1_pullWhy 0 (F_X1_pullWhy_b0) z_O k_O := by
  unfold F_X1_pullWhy_b0
  refine BS_aload_n dX1_pullWhy_0 rfl ?_
  refine BS_iload_n dX1_pullWhy_1 rfl ?_
  refine BS_call (run_V dX1_pullWhy_2 con_X1_isBone (ci := 0) rfl rfl q1089 q1091 qs29 q136 q1092 pd_X1_isBone ⟨Nat.le_of_ble_eq_true rfl, Nat.le_of_ble_eq_true rfl⟩) BV_no ?_
  refine BS_if_eq (tgt := 18) dX1_pullWhy_5 (by decide) ?_ ?_
  · exact bs_X1_pullWhy_b18
  · refine BS_aload_n dX1_pullWhy_8 rfl ?_
    refine BS_iload_n dX1_pullWhy_9 rfl ?_
    refine BS_iload dX1_pullWhy_10 ?_
    refine BS_call (run_V dX1_pullWhy_12 con_X1_isPair (ci := 0) rfl rfl q1184 q1186 qs35 q136 q1187 pd_X1_isPair ⟨Nat.le_of_ble_eq_true rfl, Nat.le_of_ble_eq_true rfl⟩) BV_no ?_
    refine BS_if_ne (tgt := 22) dX1_pullWhy_15 (by decide) ?_ ?_
    · refine BS_aload_n dX1_pullWhy_22 rfl ?_
      refine BS_iload_n dX1_pullWhy_23 rfl ?_
      refine BS_iload_n dX1_pullWhy_24 rfl ?_
      refine BS_iload dX1_pullWhy_25 ?_
      refine BS_iload dX1_pullWhy_27 ?_
      refine BS_call (run_V dX1_pullWhy_29 con_X1_holdWhy (ci := 0) rfl rfl q1188 q1190 qs36 q136 q1191 pd_X1_holdWhy ⟨Nat.le_of_ble_eq_true rfl, Nat.le_of_ble_eq_true rfl⟩) BV_no ?_
      exact BS_ireturn dX1_pullWhy_32 rfl
    · exact bs_X1_pullWhy_b18
noncomputable def F_X1_pullWhy : FF := mk_F 7 F_X1_pullWhy_b0
theorem con_X1_pullWhy : Con_ yX1_pullWhy (ws_ yX1_pullWhy cX1_pullWhy 7 (some .int)) 3 65 F_X1_pullWhy := Con_of (by decide +kernel) bs_X1_pullWhy_b0
/-- LongerHalf.strain(IIIIIIII)I -/
abbrev M_X1_strain : MM := (yX1_strain, cX1_strain, (some .int), 4, 93, 10, [])
theorem pd_X1_strain : (yX1_strain.cls ≠ "java/lang/invoke/MethodHandle" ∧ yX1_strain.cls ≠ "java/lang/invoke/VarHandle") ∧ (parseMethodDescriptor yX1_strain.desc).map (fun d => d.parameters.length) = some 8 := ⟨⟨by decide +kernel, by decide +kernel⟩, by decide +kernel⟩
noncomputable def F_X1_strain_b0 : KK OO :=
  op_ald 0 <| op_call 1 (f_kd 10 F_X1_anew) kx_no <| op_ald 0 <| op_ild 1 <| op_ild 2 <| op_ild 3 <| op_call 4 (f_kd 10 F_X1_isPlace) kx_no <| op_ine (op_ald 0 <| op_ild 1 <| op_ild 4 <| op_ild 5 <| op_ild 6 <| op_ild 7 <| op_ild 8 <| op_call 7 (f_kd 10 F_X1_pullWhy) kx_no <| op_ist 9 <| op_ild 9 <| op_ieq (op_ald 0 <| op_ild 1 <| op_ild 4 <| op_ild 5 <| op_ild 6 <| op_ild 7 <| op_ild 8 <| op_call 7 (f_kd 10 F_X1_layPull) kx_no <| op_ild 2 <| op_ild 3 <| op_call 3 (f_kd 14 F_X5_strain) kx_no <| op_iret .int) (op_ald 0 <| op_ild 9 <| op_call 2 (f_kd 10 F_X1_no) kx_no <| op_iret .int)) (op_ald 0 <| op_push (.int 1) <| op_call 2 (f_kd 10 F_X1_no) kx_no <| op_iret .int)
theorem bs_X1_strain_b0 : B_S M_X1_strain 0 (F_X1_strain_b0) z_O k_O := by
  unfold F_X1_strain_b0
  refine BS_aload_n dX1_strain_0 rfl ?_
  refine BS_call (run_V dX1_strain_1 con_X1_anew (ci := 0) rfl rfl q495 q497 qs2 q136 q498 pd_X1_anew ⟨Nat.le_of_ble_eq_true rfl, Nat.le_of_ble_eq_true rfl⟩) BV_no ?_
  refine BS_aload_n dX1_strain_4 rfl ?_
  refine BS_iload_n dX1_strain_5 rfl ?_
  refine BS_iload_n dX1_strain_6 rfl ?_
  refine BS_iload_n dX1_strain_7 rfl ?_
  refine BS_call (run_V dX1_strain_8 con_X1_isPlace (ci := 0) rfl rfl q1111 q1113 qs30 q136 q1114 pd_X1_isPlace ⟨Nat.le_of_ble_eq_true rfl, Nat.le_of_ble_eq_true rfl⟩) BV_no ?_
  refine BS_if_ne (tgt := 20) dX1_strain_11 (by decide) ?_ ?_
  · refine BS_aload_n dX1_strain_20 rfl ?_
    refine BS_iload_n dX1_strain_21 rfl ?_
    refine BS_iload dX1_strain_22 ?_
    refine BS_iload dX1_strain_24 ?_
    refine BS_iload dX1_strain_26 ?_
    refine BS_iload dX1_strain_28 ?_
    refine BS_iload dX1_strain_30 ?_
    refine BS_call (run_V dX1_strain_32 con_X1_pullWhy (ci := 0) rfl rfl q1180 q1182 qs34 q136 q1183 pd_X1_pullWhy ⟨Nat.le_of_ble_eq_true rfl, Nat.le_of_ble_eq_true rfl⟩) BV_no ?_
    refine BS_istore dX1_strain_35 (Nat.le_of_ble_eq_true rfl) ?_
    refine BS_iload dX1_strain_37 ?_
    refine BS_if_eq (tgt := 51) dX1_strain_39 (by decide) ?_ ?_
    · refine BS_aload_n dX1_strain_51 rfl ?_
      refine BS_iload_n dX1_strain_52 rfl ?_
      refine BS_iload dX1_strain_53 ?_
      refine BS_iload dX1_strain_55 ?_
      refine BS_iload dX1_strain_57 ?_
      refine BS_iload dX1_strain_59 ?_
      refine BS_iload dX1_strain_61 ?_
      refine BS_call (run_V dX1_strain_63 con_X1_layPull (ci := 0) rfl rfl q1192 q1194 qs37 q136 q1195 pd_X1_layPull ⟨Nat.le_of_ble_eq_true rfl, Nat.le_of_ble_eq_true rfl⟩) BV_no ?_
      refine BS_iload_n dX1_strain_66 rfl ?_
      refine BS_iload_n dX1_strain_67 rfl ?_
      refine BS_call (run_V dX1_strain_68 con_X5_strain (ci := 4) rfl rfl q1200 q1201 q1202 q143 q1203 pd_X5_strain ⟨Nat.le_of_ble_eq_true rfl, Nat.le_of_ble_eq_true rfl⟩) BV_no ?_
      exact BS_ireturn dX1_strain_71 rfl
    · refine BS_aload_n dX1_strain_42 rfl ?_
      refine BS_iload dX1_strain_43 ?_
      refine BS_call (run_V dX1_strain_45 con_X1_no (ci := 0) rfl rfl q502 q504 qs3 q136 q505 pd_X1_no ⟨Nat.le_of_ble_eq_true rfl, Nat.le_of_ble_eq_true rfl⟩) BV_no ?_
      refine BS_goto (tgt := 71) dX1_strain_48 (by decide) ?_
      exact BS_ireturn dX1_strain_71 rfl
  · refine BS_aload_n dX1_strain_14 rfl ?_
    refine BS_iconst dX1_strain_15 (by decide) ?_
    refine BS_call (run_V dX1_strain_16 con_X1_no (ci := 0) rfl rfl q502 q504 qs3 q136 q505 pd_X1_no ⟨Nat.le_of_ble_eq_true rfl, Nat.le_of_ble_eq_true rfl⟩) BV_no ?_
    exact BS_ireturn dX1_strain_19 rfl
noncomputable def F_X1_strain : FF := mk_F 10 F_X1_strain_b0
theorem con_X1_strain : Con_ yX1_strain (ws_ yX1_strain cX1_strain 10 (some .int)) 4 93 F_X1_strain := Con_of (by decide +kernel) bs_X1_strain_b0
/-- LongerHalf.pulled(IIIIII)I -/
abbrev M_X1_pulled : MM := (yX1_pulled, cX1_pulled, (some .int), 6, 134, 8, [])
theorem pd_X1_pulled : (yX1_pulled.cls ≠ "java/lang/invoke/MethodHandle" ∧ yX1_pulled.cls ≠ "java/lang/invoke/VarHandle") ∧ (parseMethodDescriptor yX1_pulled.desc).map (fun d => d.parameters.length) = some 6 := ⟨⟨by decide +kernel, by decide +kernel⟩, by decide +kernel⟩
noncomputable def F_X1_pulled_b0 : KK OO :=
  op_ald 0 <| op_call 1 (f_kd 10 F_X1_anew) kx_no <| op_ald 0 <| op_ild 1 <| op_ild 2 <| op_ild 3 <| op_ild 4 <| op_ild 5 <| op_ild 6 <| op_call 7 (f_kd 10 F_X1_pullWhy) kx_no <| op_ist 7 <| op_ild 7 <| op_ieq (op_ald 0 <| op_ild 1 <| op_ild 2 <| op_ild 3 <| op_ild 4 <| op_ild 5 <| op_ild 6 <| op_call 7 (f_kd 10 F_X1_layPull) kx_no <| op_call 1 (f_kd 14 F_X5_comes) kx_no <| op_iret .int) (op_ald 0 <| op_ild 7 <| op_call 2 (f_kd 10 F_X1_no) kx_no <| op_iret .int)
theorem bs_X1_pulled_b0 : B_S M_X1_pulled 0 (F_X1_pulled_b0) z_O k_O := by
  unfold F_X1_pulled_b0
  refine BS_aload_n dX1_pulled_0 rfl ?_
  refine BS_call (run_V dX1_pulled_1 con_X1_anew (ci := 0) rfl rfl q495 q497 qs2 q136 q498 pd_X1_anew ⟨Nat.le_of_ble_eq_true rfl, Nat.le_of_ble_eq_true rfl⟩) BV_no ?_
  refine BS_aload_n dX1_pulled_4 rfl ?_
  refine BS_iload_n dX1_pulled_5 rfl ?_
  refine BS_iload_n dX1_pulled_6 rfl ?_
  refine BS_iload_n dX1_pulled_7 rfl ?_
  refine BS_iload dX1_pulled_8 ?_
  refine BS_iload dX1_pulled_10 ?_
  refine BS_iload dX1_pulled_12 ?_
  refine BS_call (run_V dX1_pulled_14 con_X1_pullWhy (ci := 0) rfl rfl q1180 q1182 qs34 q136 q1183 pd_X1_pullWhy ⟨Nat.le_of_ble_eq_true rfl, Nat.le_of_ble_eq_true rfl⟩) BV_no ?_
  refine BS_istore dX1_pulled_17 (Nat.le_of_ble_eq_true rfl) ?_
  refine BS_iload dX1_pulled_19 ?_
  refine BS_if_eq (tgt := 33) dX1_pulled_21 (by decide) ?_ ?_
  · refine BS_aload_n dX1_pulled_33 rfl ?_
    refine BS_iload_n dX1_pulled_34 rfl ?_
    refine BS_iload_n dX1_pulled_35 rfl ?_
    refine BS_iload_n dX1_pulled_36 rfl ?_
    refine BS_iload dX1_pulled_37 ?_
    refine BS_iload dX1_pulled_39 ?_
    refine BS_iload dX1_pulled_41 ?_
    refine BS_call (run_V dX1_pulled_43 con_X1_layPull (ci := 0) rfl rfl q1192 q1194 qs37 q136 q1195 pd_X1_layPull ⟨Nat.le_of_ble_eq_true rfl, Nat.le_of_ble_eq_true rfl⟩) BV_no ?_
    refine BS_call (run_V dX1_pulled_46 con_X5_comes (ci := 4) rfl rfl q1222 q1223 q1224 q143 q1225 pd_X5_comes ⟨Nat.le_of_ble_eq_true rfl, Nat.le_of_ble_eq_true rfl⟩) BV_no ?_
    exact BS_ireturn dX1_pulled_49 rfl
  · refine BS_aload_n dX1_pulled_24 rfl ?_
    refine BS_iload dX1_pulled_25 ?_
    refine BS_call (run_V dX1_pulled_27 con_X1_no (ci := 0) rfl rfl q502 q504 qs3 q136 q505 pd_X1_no ⟨Nat.le_of_ble_eq_true rfl, Nat.le_of_ble_eq_true rfl⟩) BV_no ?_
    refine BS_goto (tgt := 49) dX1_pulled_30 (by decide) ?_
    exact BS_ireturn dX1_pulled_49 rfl
noncomputable def F_X1_pulled : FF := mk_F 8 F_X1_pulled_b0
theorem con_X1_pulled : Con_ yX1_pulled (ws_ yX1_pulled cX1_pulled 8 (some .int)) 6 134 F_X1_pulled := Con_of (by decide +kernel) bs_X1_pulled_b0
/-- LongerHalf.breaksAt(IIIIII)I -/
abbrev M_X1_breaksAt : MM := (yX1_breaksAt, cX1_breaksAt, (some .int), 6, 134, 8, [])
theorem pd_X1_breaksAt : (yX1_breaksAt.cls ≠ "java/lang/invoke/MethodHandle" ∧ yX1_breaksAt.cls ≠ "java/lang/invoke/VarHandle") ∧ (parseMethodDescriptor yX1_breaksAt.desc).map (fun d => d.parameters.length) = some 6 := ⟨⟨by decide +kernel, by decide +kernel⟩, by decide +kernel⟩
noncomputable def F_X1_breaksAt_b0 : KK OO :=
  op_ald 0 <| op_call 1 (f_kd 10 F_X1_anew) kx_no <| op_ald 0 <| op_ild 1 <| op_ild 2 <| op_ild 3 <| op_ild 4 <| op_ild 5 <| op_ild 6 <| op_call 7 (f_kd 10 F_X1_pullWhy) kx_no <| op_ist 7 <| op_ild 7 <| op_ieq (op_ald 0 <| op_ild 1 <| op_ild 2 <| op_ild 3 <| op_ild 4 <| op_ild 5 <| op_ild 6 <| op_call 7 (f_kd 10 F_X1_layPull) kx_no <| op_call 1 (f_kd 14 F_X5_comes) kx_no <| op_push (.int 2) <| op_clt (op_push (.int 10) <| op_ald 0 <| op_gfr [10] 12 <| op_gfi [14] 53 <| op_i2 (fun x y => x * y) <| op_ald 0 <| op_gfr [10] 12 <| op_gfi [14] 54 <| op_i2 (fun x y => x + y) <| op_iret .int) (op_push (.int (-2)) <| op_iret .int)) (op_ald 0 <| op_ild 7 <| op_call 2 (f_kd 10 F_X1_no) kx_no <| op_iret .int)
theorem bs_X1_breaksAt_b0 : B_S M_X1_breaksAt 0 (F_X1_breaksAt_b0) z_O k_O := by
  unfold F_X1_breaksAt_b0
  refine BS_aload_n dX1_breaksAt_0 rfl ?_
  refine BS_call (run_V dX1_breaksAt_1 con_X1_anew (ci := 0) rfl rfl q495 q497 qs2 q136 q498 pd_X1_anew ⟨Nat.le_of_ble_eq_true rfl, Nat.le_of_ble_eq_true rfl⟩) BV_no ?_
  refine BS_aload_n dX1_breaksAt_4 rfl ?_
  refine BS_iload_n dX1_breaksAt_5 rfl ?_
  refine BS_iload_n dX1_breaksAt_6 rfl ?_
  refine BS_iload_n dX1_breaksAt_7 rfl ?_
  refine BS_iload dX1_breaksAt_8 ?_
  refine BS_iload dX1_breaksAt_10 ?_
  refine BS_iload dX1_breaksAt_12 ?_
  refine BS_call (run_V dX1_breaksAt_14 con_X1_pullWhy (ci := 0) rfl rfl q1180 q1182 qs34 q136 q1183 pd_X1_pullWhy ⟨Nat.le_of_ble_eq_true rfl, Nat.le_of_ble_eq_true rfl⟩) BV_no ?_
  refine BS_istore dX1_breaksAt_17 (Nat.le_of_ble_eq_true rfl) ?_
  refine BS_iload dX1_breaksAt_19 ?_
  refine BS_if_eq (tgt := 31) dX1_breaksAt_21 (by decide) ?_ ?_
  · refine BS_aload_n dX1_breaksAt_31 rfl ?_
    refine BS_iload_n dX1_breaksAt_32 rfl ?_
    refine BS_iload_n dX1_breaksAt_33 rfl ?_
    refine BS_iload_n dX1_breaksAt_34 rfl ?_
    refine BS_iload dX1_breaksAt_35 ?_
    refine BS_iload dX1_breaksAt_37 ?_
    refine BS_iload dX1_breaksAt_39 ?_
    refine BS_call (run_V dX1_breaksAt_41 con_X1_layPull (ci := 0) rfl rfl q1192 q1194 qs37 q136 q1195 pd_X1_layPull ⟨Nat.le_of_ble_eq_true rfl, Nat.le_of_ble_eq_true rfl⟩) BV_no ?_
    refine BS_call (run_V dX1_breaksAt_44 con_X5_comes (ci := 4) rfl rfl q1222 q1223 q1224 q143 q1225 pd_X5_comes ⟨Nat.le_of_ble_eq_true rfl, Nat.le_of_ble_eq_true rfl⟩) BV_no ?_
    refine BS_iconst dX1_breaksAt_47 (by decide) ?_
    refine BS_icmp_lt (tgt := 56) dX1_breaksAt_48 (by decide) ?_ ?_
    · refine BS_bipush dX1_breaksAt_56 (by decide) ?_
      refine BS_aload_n dX1_breaksAt_58 rfl ?_
      refine BS_gfr f_X1_46 dX1_breaksAt_59 ?_
      refine BS_gfi f_X1_240 dX1_breaksAt_62 ?_
      refine BS_imul dX1_breaksAt_65 ?_
      refine BS_aload_n dX1_breaksAt_66 rfl ?_
      refine BS_gfr f_X1_46 dX1_breaksAt_67 ?_
      refine BS_gfi f_X1_243 dX1_breaksAt_70 ?_
      refine BS_iadd dX1_breaksAt_73 ?_
      exact BS_ireturn dX1_breaksAt_74 rfl
    · refine BS_bipush dX1_breaksAt_51 (by decide) ?_
      refine BS_goto (tgt := 74) dX1_breaksAt_53 (by decide) ?_
      exact BS_ireturn dX1_breaksAt_74 rfl
  · refine BS_aload_n dX1_breaksAt_24 rfl ?_
    refine BS_iload dX1_breaksAt_25 ?_
    refine BS_call (run_V dX1_breaksAt_27 con_X1_no (ci := 0) rfl rfl q502 q504 qs3 q136 q505 pd_X1_no ⟨Nat.le_of_ble_eq_true rfl, Nat.le_of_ble_eq_true rfl⟩) BV_no ?_
    exact BS_ireturn dX1_breaksAt_30 rfl
noncomputable def F_X1_breaksAt : FF := mk_F 8 F_X1_breaksAt_b0
theorem con_X1_breaksAt : Con_ yX1_breaksAt (ws_ yX1_breaksAt cX1_breaksAt 8 (some .int)) 6 134 F_X1_breaksAt := Con_of (by decide +kernel) bs_X1_breaksAt_b0
/-- LongerHalf.flawed(IIIIIIII)I -/
abbrev M_X1_flawed : MM := (yX1_flawed, cX1_flawed, (some .int), 6, 134, 10, [])
theorem pd_X1_flawed : (yX1_flawed.cls ≠ "java/lang/invoke/MethodHandle" ∧ yX1_flawed.cls ≠ "java/lang/invoke/VarHandle") ∧ (parseMethodDescriptor yX1_flawed.desc).map (fun d => d.parameters.length) = some 8 := ⟨⟨by decide +kernel, by decide +kernel⟩, by decide +kernel⟩
noncomputable def F_X1_flawed_b0 : KK OO :=
  op_ald 0 <| op_call 1 (f_kd 10 F_X1_anew) kx_no <| op_ald 0 <| op_ild 1 <| op_ild 7 <| op_ild 8 <| op_call 4 (f_kd 10 F_X1_isPlace) kx_no <| op_ine (op_ald 0 <| op_ild 1 <| op_ild 2 <| op_ild 3 <| op_ild 4 <| op_ild 5 <| op_ild 6 <| op_call 7 (f_kd 10 F_X1_pullWhy) kx_no <| op_ist 9 <| op_ild 9 <| op_ieq (op_ald 0 <| op_ild 1 <| op_ild 2 <| op_ild 3 <| op_ild 4 <| op_ild 5 <| op_ild 6 <| op_call 7 (f_kd 10 F_X1_layPull) kx_no <| op_ild 7 <| op_ild 8 <| op_call 3 (f_kd 14 F_X5_flaw) kx_no <| op_ald 0 <| op_gfr [10] 12 <| op_call 1 (f_kd 14 F_X5_comes) kx_no <| op_iret .int) (op_ald 0 <| op_ild 9 <| op_call 2 (f_kd 10 F_X1_no) kx_no <| op_iret .int)) (op_ald 0 <| op_push (.int 1) <| op_call 2 (f_kd 10 F_X1_no) kx_no <| op_iret .int)
theorem bs_X1_flawed_b0 : B_S M_X1_flawed 0 (F_X1_flawed_b0) z_O k_O := by
  unfold F_X1_flawed_b0
  refine BS_aload_n dX1_flawed_0 rfl ?_
  refine BS_call (run_V dX1_flawed_1 con_X1_anew (ci := 0) rfl rfl q495 q497 qs2 q136 q498 pd_X1_anew ⟨Nat.le_of_ble_eq_true rfl, Nat.le_of_ble_eq_true rfl⟩) BV_no ?_
  refine BS_aload_n dX1_flawed_4 rfl ?_
  refine BS_iload_n dX1_flawed_5 rfl ?_
  refine BS_iload dX1_flawed_6 ?_
  refine BS_iload dX1_flawed_8 ?_
  refine BS_call (run_V dX1_flawed_10 con_X1_isPlace (ci := 0) rfl rfl q1111 q1113 qs30 q136 q1114 pd_X1_isPlace ⟨Nat.le_of_ble_eq_true rfl, Nat.le_of_ble_eq_true rfl⟩) BV_no ?_
  refine BS_if_ne (tgt := 22) dX1_flawed_13 (by decide) ?_ ?_
  · refine BS_aload_n dX1_flawed_22 rfl ?_
    refine BS_iload_n dX1_flawed_23 rfl ?_
    refine BS_iload_n dX1_flawed_24 rfl ?_
    refine BS_iload_n dX1_flawed_25 rfl ?_
    refine BS_iload dX1_flawed_26 ?_
    refine BS_iload dX1_flawed_28 ?_
    refine BS_iload dX1_flawed_30 ?_
    refine BS_call (run_V dX1_flawed_32 con_X1_pullWhy (ci := 0) rfl rfl q1180 q1182 qs34 q136 q1183 pd_X1_pullWhy ⟨Nat.le_of_ble_eq_true rfl, Nat.le_of_ble_eq_true rfl⟩) BV_no ?_
    refine BS_istore dX1_flawed_35 (Nat.le_of_ble_eq_true rfl) ?_
    refine BS_iload dX1_flawed_37 ?_
    refine BS_if_eq (tgt := 49) dX1_flawed_39 (by decide) ?_ ?_
    · refine BS_aload_n dX1_flawed_49 rfl ?_
      refine BS_iload_n dX1_flawed_50 rfl ?_
      refine BS_iload_n dX1_flawed_51 rfl ?_
      refine BS_iload_n dX1_flawed_52 rfl ?_
      refine BS_iload dX1_flawed_53 ?_
      refine BS_iload dX1_flawed_55 ?_
      refine BS_iload dX1_flawed_57 ?_
      refine BS_call (run_V dX1_flawed_59 con_X1_layPull (ci := 0) rfl rfl q1192 q1194 qs37 q136 q1195 pd_X1_layPull ⟨Nat.le_of_ble_eq_true rfl, Nat.le_of_ble_eq_true rfl⟩) BV_no ?_
      refine BS_iload dX1_flawed_62 ?_
      refine BS_iload dX1_flawed_64 ?_
      refine BS_call (run_V dX1_flawed_66 con_X5_flaw (ci := 4) rfl rfl q1248 q1249 q1250 q143 q1251 pd_X5_flaw ⟨Nat.le_of_ble_eq_true rfl, Nat.le_of_ble_eq_true rfl⟩) BV_no ?_
      refine BS_aload_n dX1_flawed_69 rfl ?_
      refine BS_gfr f_X1_46 dX1_flawed_70 ?_
      refine BS_call (run_V dX1_flawed_73 con_X5_comes (ci := 4) rfl rfl q1222 q1223 q1224 q143 q1225 pd_X5_comes ⟨Nat.le_of_ble_eq_true rfl, Nat.le_of_ble_eq_true rfl⟩) BV_no ?_
      exact BS_ireturn dX1_flawed_76 rfl
    · refine BS_aload_n dX1_flawed_42 rfl ?_
      refine BS_iload dX1_flawed_43 ?_
      refine BS_call (run_V dX1_flawed_45 con_X1_no (ci := 0) rfl rfl q502 q504 qs3 q136 q505 pd_X1_no ⟨Nat.le_of_ble_eq_true rfl, Nat.le_of_ble_eq_true rfl⟩) BV_no ?_
      exact BS_ireturn dX1_flawed_48 rfl
  · refine BS_aload_n dX1_flawed_16 rfl ?_
    refine BS_iconst dX1_flawed_17 (by decide) ?_
    refine BS_call (run_V dX1_flawed_18 con_X1_no (ci := 0) rfl rfl q502 q504 qs3 q136 q505 pd_X1_no ⟨Nat.le_of_ble_eq_true rfl, Nat.le_of_ble_eq_true rfl⟩) BV_no ?_
    exact BS_ireturn dX1_flawed_21 rfl
noncomputable def F_X1_flawed : FF := mk_F 10 F_X1_flawed_b0
theorem con_X1_flawed : Con_ yX1_flawed (ws_ yX1_flawed cX1_flawed 10 (some .int)) 6 134 F_X1_flawed := Con_of (by decide +kernel) bs_X1_flawed_b0
/-- LongerHalf.dividing(JJ)J -/
abbrev M_X1_dividing (d9 : Nat) : MM := (yX1_dividing, cX1_dividing, (some .long), 0 + (d9 + 1), 0 + 23 * (d9 + 1), 4, [])
theorem pd_X1_dividing : (yX1_dividing.cls ≠ "java/lang/invoke/MethodHandle" ∧ yX1_dividing.cls ≠ "java/lang/invoke/VarHandle") ∧ (parseMethodDescriptor yX1_dividing.desc).map (fun d => d.parameters.length) = some 2 := ⟨⟨by decide +kernel, by decide +kernel⟩, by decide +kernel⟩
noncomputable def F_X1_dividing_b0 (Fr : FF) : KK OO :=
  op_lld 2 <| op_push (.long 0) <| op_lcmp <| op_ine (op_lld 2 <| op_lld 0 <| op_lld 2 <| op_l2d (fun x y => x - x / y * y) <| op_call 2 Fr kx_no <| op_lret) (op_lld 0 <| op_lret)
theorem bs_X1_dividing_b0 {d9 : Nat} {Fr : FF} (hr : Con_ yX1_dividing (ws_ yX1_dividing cX1_dividing 4 (some .long)) (0 + d9) (0 + 23 * d9) Fr) : B_S (M_X1_dividing d9) 0 (F_X1_dividing_b0 Fr) z_O k_O := by
  unfold F_X1_dividing_b0
  refine BS_lload_n dX1_dividing_0 rfl ?_
  refine BS_lconst dX1_dividing_1 (by decide) ?_
  refine BS_lcmp dX1_dividing_2 ?_
  refine BS_if_ne (tgt := 10) dX1_dividing_3 (by decide) ?_ ?_
  · refine BS_lload_n dX1_dividing_10 rfl ?_
    refine BS_lload_n dX1_dividing_11 rfl ?_
    refine BS_lload_n dX1_dividing_12 rfl ?_
    refine BS_lrem dX1_dividing_13 ?_
    refine BS_call (run_S dX1_dividing_14 hr q1277 q1278 q136 q1279 pd_X1_dividing ⟨by show 0 + d9 + 1 ≤ 0 + (d9 + 1); omega, by show _ ≤ 0 + 23 * (d9 + 1); omega⟩) BV_no ?_
    exact BS_lreturn dX1_dividing_17 rfl
  · refine BS_lload_n dX1_dividing_6 rfl ?_
    refine BS_goto (tgt := 17) dX1_dividing_7 (by decide) ?_
    exact BS_lreturn dX1_dividing_17 rfl
noncomputable def F_X1_dividing : Nat → FF
  | 0 => fun _ _ => none
  | d9 + 1 => mk_F 4 (F_X1_dividing_b0 (F_X1_dividing d9))
theorem con_X1_dividing : ∀ d9 : Nat, Con_ yX1_dividing (ws_ yX1_dividing cX1_dividing 4 (some .long)) (0 + d9) (0 + 23 * d9) (F_X1_dividing d9)
  | 0 => fun _ _ _ h => by cases h
  | d9 + 1 => Con_of (by decide +kernel) (bs_X1_dividing_b0 (con_X1_dividing d9))
/-- LongerHalf.lowest(JJZ)J -/
abbrev M_X1_lowest : MM := (yX1_lowest, cX1_lowest, (some .long), 201, 4623, 5, [])
theorem pd_X1_lowest : (yX1_lowest.cls ≠ "java/lang/invoke/MethodHandle" ∧ yX1_lowest.cls ≠ "java/lang/invoke/VarHandle") ∧ (parseMethodDescriptor yX1_lowest.desc).map (fun d => d.parameters.length) = some 3 := ⟨⟨by decide +kernel, by decide +kernel⟩, by decide +kernel⟩
noncomputable def F_X1_lowest_b10 : KK OO :=
  op_lld 2 <| op_lld 0 <| op_call 2 (F_X1_dividing 200) kx_no <| op_l2d (fun x y => x / y) <| op_lret
theorem bs_X1_lowest_b10 : B_S M_X1_lowest 10 (F_X1_lowest_b10) z_O k_O := by
  unfold F_X1_lowest_b10
  refine BS_lload_n dX1_lowest_10 rfl ?_
  refine BS_lload_n dX1_lowest_11 rfl ?_
  refine BS_call (run_S dX1_lowest_12 (con_X1_dividing 200) q1277 q1278 q136 q1279 pd_X1_dividing ⟨Nat.le_of_ble_eq_true rfl, Nat.le_of_ble_eq_true rfl⟩) BV_no ?_
  refine BS_ldiv dX1_lowest_15 ?_
  exact BS_lreturn dX1_lowest_16 rfl
noncomputable def F_X1_lowest_b0 : KK OO :=
  op_ild 4 <| op_ieq (op_lld 0 <| F_X1_lowest_b10) (op_lld 2 <| F_X1_lowest_b10)
theorem bs_X1_lowest_b0 : B_S M_X1_lowest 0 (F_X1_lowest_b0) z_O k_O := by
  unfold F_X1_lowest_b0
  refine BS_iload dX1_lowest_0 ?_
  refine BS_if_eq (tgt := 9) dX1_lowest_2 (by decide) ?_ ?_
  · refine BS_lload_n dX1_lowest_9 rfl ?_
    exact bs_X1_lowest_b10
  · refine BS_lload_n dX1_lowest_5 rfl ?_
    refine BS_goto (tgt := 10) dX1_lowest_6 (by decide) ?_
    exact bs_X1_lowest_b10
noncomputable def F_X1_lowest : FF := mk_F 5 F_X1_lowest_b0
theorem con_X1_lowest : Con_ yX1_lowest (ws_ yX1_lowest cX1_lowest 5 (some .long)) 201 4623 F_X1_lowest := Con_of (by decide +kernel) bs_X1_lowest_b0
/-- LongerHalf.odds(IIIIIIIZ)J -/
abbrev M_X1_odds : MM := (yX1_odds, cX1_odds, (some .long), 202, 4647, 10, [])
theorem pd_X1_odds : (yX1_odds.cls ≠ "java/lang/invoke/MethodHandle" ∧ yX1_odds.cls ≠ "java/lang/invoke/VarHandle") ∧ (parseMethodDescriptor yX1_odds.desc).map (fun d => d.parameters.length) = some 8 := ⟨⟨by decide +kernel, by decide +kernel⟩, by decide +kernel⟩
noncomputable def F_X1_odds_b0 : KK OO :=
  op_ald 0 <| op_call 1 (f_kd 10 F_X1_anew) kx_no <| op_ild 7 <| op_push (.int 0) <| op_push (.int 3) <| op_call 3 F_X1_in kx_no <| op_ine (op_ald 0 <| op_ild 1 <| op_ild 2 <| op_ild 3 <| op_ild 4 <| op_ild 5 <| op_ild 6 <| op_call 7 (f_kd 10 F_X1_pullWhy) kx_no <| op_ist 9 <| op_ild 9 <| op_ieq (op_ald 0 <| op_ild 1 <| op_ild 2 <| op_ild 3 <| op_ild 4 <| op_ild 5 <| op_ild 6 <| op_call 7 (f_kd 10 F_X1_layPull) kx_no <| op_ild 7 <| op_call 2 (f_kd 14 F_X5_odds) kx_no <| op_ald 0 <| op_gfr [10] 12 <| op_call 1 (f_kd 14 F_X5_all) kx_no <| op_ild 8 <| op_call 3 F_X1_lowest kx_no <| op_lret) (op_ald 0 <| op_ild 9 <| op_call 2 (f_kd 10 F_X1_no) kx_no <| op_i2l <| op_lret)) (op_ald 0 <| op_push (.int 1) <| op_call 2 (f_kd 10 F_X1_no) kx_no <| op_i2l <| op_lret)
theorem bs_X1_odds_b0 : B_S M_X1_odds 0 (F_X1_odds_b0) z_O k_O := by
  unfold F_X1_odds_b0
  refine BS_aload_n dX1_odds_0 rfl ?_
  refine BS_call (run_V dX1_odds_1 con_X1_anew (ci := 0) rfl rfl q495 q497 qs2 q136 q498 pd_X1_anew ⟨Nat.le_of_ble_eq_true rfl, Nat.le_of_ble_eq_true rfl⟩) BV_no ?_
  refine BS_iload dX1_odds_4 ?_
  refine BS_iconst dX1_odds_6 (by decide) ?_
  refine BS_iconst dX1_odds_7 (by decide) ?_
  refine BS_call (run_S dX1_odds_8 con_X1_in q499 q500 q136 q501 pd_X1_in ⟨Nat.le_of_ble_eq_true rfl, Nat.le_of_ble_eq_true rfl⟩) BV_no ?_
  refine BS_if_ne (tgt := 21) dX1_odds_11 (by decide) ?_ ?_
  · refine BS_aload_n dX1_odds_21 rfl ?_
    refine BS_iload_n dX1_odds_22 rfl ?_
    refine BS_iload_n dX1_odds_23 rfl ?_
    refine BS_iload_n dX1_odds_24 rfl ?_
    refine BS_iload dX1_odds_25 ?_
    refine BS_iload dX1_odds_27 ?_
    refine BS_iload dX1_odds_29 ?_
    refine BS_call (run_V dX1_odds_31 con_X1_pullWhy (ci := 0) rfl rfl q1180 q1182 qs34 q136 q1183 pd_X1_pullWhy ⟨Nat.le_of_ble_eq_true rfl, Nat.le_of_ble_eq_true rfl⟩) BV_no ?_
    refine BS_istore dX1_odds_34 (Nat.le_of_ble_eq_true rfl) ?_
    refine BS_iload dX1_odds_36 ?_
    refine BS_if_eq (tgt := 49) dX1_odds_38 (by decide) ?_ ?_
    · refine BS_aload_n dX1_odds_49 rfl ?_
      refine BS_iload_n dX1_odds_50 rfl ?_
      refine BS_iload_n dX1_odds_51 rfl ?_
      refine BS_iload_n dX1_odds_52 rfl ?_
      refine BS_iload dX1_odds_53 ?_
      refine BS_iload dX1_odds_55 ?_
      refine BS_iload dX1_odds_57 ?_
      refine BS_call (run_V dX1_odds_59 con_X1_layPull (ci := 0) rfl rfl q1192 q1194 qs37 q136 q1195 pd_X1_layPull ⟨Nat.le_of_ble_eq_true rfl, Nat.le_of_ble_eq_true rfl⟩) BV_no ?_
      refine BS_iload dX1_odds_62 ?_
      refine BS_call (run_V dX1_odds_64 con_X5_odds (ci := 4) rfl rfl q1256 q1257 q1258 q143 q1259 pd_X5_odds ⟨Nat.le_of_ble_eq_true rfl, Nat.le_of_ble_eq_true rfl⟩) BV_no ?_
      refine BS_aload_n dX1_odds_67 rfl ?_
      refine BS_gfr f_X1_46 dX1_odds_68 ?_
      refine BS_call (run_V dX1_odds_71 con_X5_all (ci := 4) rfl rfl q1269 q1270 q1271 q143 q1272 pd_X5_all ⟨Nat.le_of_ble_eq_true rfl, Nat.le_of_ble_eq_true rfl⟩) BV_no ?_
      refine BS_iload dX1_odds_74 ?_
      refine BS_call (run_S dX1_odds_76 con_X1_lowest q1274 q1275 q136 q1276 pd_X1_lowest ⟨Nat.le_of_ble_eq_true rfl, Nat.le_of_ble_eq_true rfl⟩) BV_no ?_
      exact BS_lreturn dX1_odds_79 rfl
    · refine BS_aload_n dX1_odds_41 rfl ?_
      refine BS_iload dX1_odds_42 ?_
      refine BS_call (run_V dX1_odds_44 con_X1_no (ci := 0) rfl rfl q502 q504 qs3 q136 q505 pd_X1_no ⟨Nat.le_of_ble_eq_true rfl, Nat.le_of_ble_eq_true rfl⟩) BV_no ?_
      refine BS_i2l dX1_odds_47 ?_
      exact BS_lreturn dX1_odds_48 rfl
  · refine BS_aload_n dX1_odds_14 rfl ?_
    refine BS_iconst dX1_odds_15 (by decide) ?_
    refine BS_call (run_V dX1_odds_16 con_X1_no (ci := 0) rfl rfl q502 q504 qs3 q136 q505 pd_X1_no ⟨Nat.le_of_ble_eq_true rfl, Nat.le_of_ble_eq_true rfl⟩) BV_no ?_
    refine BS_i2l dX1_odds_19 ?_
    exact BS_lreturn dX1_odds_20 rfl
noncomputable def F_X1_odds : FF := mk_F 10 F_X1_odds_b0
theorem con_X1_odds : Con_ yX1_odds (ws_ yX1_odds cX1_odds 10 (some .long)) 202 4647 F_X1_odds := Con_of (by decide +kernel) bs_X1_odds_b0
/-- LongerHalf.best(IIII)I -/
abbrev M_X1_best : MM := (yX1_best, cX1_best, (some .int), 7, 159, 11, [])
theorem pd_X1_best : (yX1_best.cls ≠ "java/lang/invoke/MethodHandle" ∧ yX1_best.cls ≠ "java/lang/invoke/VarHandle") ∧ (parseMethodDescriptor yX1_best.desc).map (fun d => d.parameters.length) = some 4 := ⟨⟨by decide +kernel, by decide +kernel⟩, by decide +kernel⟩
noncomputable def F_X1_best_b21 : KK OO :=
  op_ald 0 <| op_push (.int 1) <| op_call 2 (f_kd 10 F_X1_no) kx_no <| op_iret .int
theorem bs_X1_best_b21 : B_S M_X1_best 21 (F_X1_best_b21) z_O k_O := by
  unfold F_X1_best_b21
  refine BS_aload_n dX1_best_21 rfl ?_
  refine BS_iconst dX1_best_22 (by decide) ?_
  refine BS_call (run_V dX1_best_23 con_X1_no (ci := 0) rfl rfl q502 q504 qs3 q136 q505 pd_X1_no ⟨Nat.le_of_ble_eq_true rfl, Nat.le_of_ble_eq_true rfl⟩) BV_no ?_
  exact BS_ireturn dX1_best_26 rfl
noncomputable def F_X1_best_b145 : KK (L_S ⊕ OO) :=
  op_call 6 (f_kd 14 F_X5_hold) kx_no <| op_ald 0 <| op_gfr [10] 12 <| op_push (.int 0) <| op_call 2 (f_kd 14 F_X5_odds) kx_no <| op_lst 9 <| op_lld 9 <| op_lld 6 <| op_lcmp <| op_igt (op_ild 8 <| op_call 1 F_X6_told kx_no <| op_ist 5 <| op_lld 9 <| op_lst 6 <| op_iinc 8 1 <| op_back) (op_iinc 8 1 <| op_back)
theorem bs_X1_best_b145 : B_S M_X1_best 145 (F_X1_best_b145) (z_L z_O) (k_L 62 k_O) := by
  unfold F_X1_best_b145
  refine BS_call (run_V dX1_best_145 con_X5_hold (ci := 4) rfl rfl q1196 q1197 q1198 q143 q1199 pd_X5_hold ⟨Nat.le_of_ble_eq_true rfl, Nat.le_of_ble_eq_true rfl⟩) BV_no ?_
  refine BS_aload_n dX1_best_148 rfl ?_
  refine BS_gfr f_X1_46 dX1_best_149 ?_
  refine BS_iconst dX1_best_152 (by decide) ?_
  refine BS_call (run_V dX1_best_153 con_X5_odds (ci := 4) rfl rfl q1256 q1257 q1258 q143 q1259 pd_X5_odds ⟨Nat.le_of_ble_eq_true rfl, Nat.le_of_ble_eq_true rfl⟩) BV_no ?_
  refine BS_lstore dX1_best_156 (Nat.le_of_ble_eq_true rfl) ?_
  refine BS_lload dX1_best_158 ?_
  refine BS_lload dX1_best_160 ?_
  refine BS_lcmp dX1_best_162 ?_
  refine BS_if_gt (tgt := 169) dX1_best_163 (by decide) ?_ ?_
  · refine BS_iload dX1_best_169 ?_
    refine BS_call (run_S dX1_best_171 con_X6_told q1289 q1290 q144 q1291 pd_X6_told ⟨Nat.le_of_ble_eq_true rfl, Nat.le_of_ble_eq_true rfl⟩) BV_no ?_
    refine BS_istore dX1_best_174 (Nat.le_of_ble_eq_true rfl) ?_
    refine BS_lload dX1_best_176 ?_
    refine BS_lstore dX1_best_178 (Nat.le_of_ble_eq_true rfl) ?_
    refine BS_iinc dX1_best_180 (by decide) (Nat.le_of_ble_eq_true rfl) ?_
    refine BS_goto (tgt := 62) dX1_best_183 (by decide) ?_
    exact BS_back
  · refine BS_goto (tgt := 180) dX1_best_166 (by decide) ?_
    refine BS_iinc dX1_best_180 (by decide) (Nat.le_of_ble_eq_true rfl) ?_
    refine BS_goto (tgt := 62) dX1_best_183 (by decide) ?_
    exact BS_back
noncomputable def F_X1_best_b140 : KK (L_S ⊕ OO) :=
  op_push (.int 0) <| F_X1_best_b145
theorem bs_X1_best_b140 : B_S M_X1_best 140 (F_X1_best_b140) (z_L z_O) (k_L 62 k_O) := by
  unfold F_X1_best_b140
  refine BS_iconst dX1_best_140 (by decide) ?_
  refine BS_goto (tgt := 145) dX1_best_141 (by decide) ?_
  exact bs_X1_best_b145
noncomputable def F_X1_best_b99 : KK (L_S ⊕ OO) :=
  op_iinc 8 1 <| op_back
theorem bs_X1_best_b99 : B_S M_X1_best 99 (F_X1_best_b99) (z_L z_O) (k_L 62 k_O) := by
  unfold F_X1_best_b99
  refine BS_goto (tgt := 180) dX1_best_99 (by decide) ?_
  refine BS_iinc dX1_best_180 (by decide) (Nat.le_of_ble_eq_true rfl) ?_
  refine BS_goto (tgt := 62) dX1_best_183 (by decide) ?_
  exact BS_back
noncomputable def F_X1_best_l62 : KK (L_S ⊕ OO) :=
  op_ild 8 <| op_push (.int 2) <| op_ald 0 <| op_gfr [10] 3 <| op_gfr [17] 68 <| op_ild 1 <| op_aald 8 <| op_push (.int 0) <| op_call 2 (f_or (f_kd 18 F_X11_size) (f_or (f_kd 19 F_X11_size) (f_kd 20 F_X11_size))) kx_no <| op_i2 (fun x y => x * y) <| op_cge (op_exit <| op_ild 5 <| op_iret .int) (op_ald 0 <| op_gfr [10] 3 <| op_gfr [17] 69 <| op_ild 2 <| op_aald 6 <| op_ild 8 <| op_call 2 F_X6_can kx_no <| op_ine (op_ald 0 <| op_gfr [10] 12 <| op_ald 0 <| op_gfr [10] 3 <| op_gfr [17] 69 <| op_ild 2 <| op_aald 6 <| op_ild 8 <| op_push (.int 2) <| op_i2d (fun x y => x / y) <| op_push (.int 1) <| op_i2 (fun x y => x + y) <| op_ald 0 <| op_gfr [10] 3 <| op_gfr [17] 69 <| op_ild 3 <| op_aald 6 <| op_ild 4 <| op_ild 8 <| op_push (.int 2) <| op_i2d (fun x y => x - x / y * y) <| op_push (.int 1) <| op_cne (op_push (.int 2) <| F_X1_best_b145) (F_X1_best_b140)) (F_X1_best_b99))
theorem bs_X1_best_l62 : B_S M_X1_best 62 (F_X1_best_l62) (z_L z_O) (k_L 62 k_O) := by
  unfold F_X1_best_l62
  refine BS_iload dX1_best_62 ?_
  refine BS_iconst dX1_best_64 (by decide) ?_
  refine BS_aload_n dX1_best_65 rfl ?_
  refine BS_gfr f_X1_108 dX1_best_66 ?_
  refine BS_gfr f_X1_143 dX1_best_69 ?_
  refine BS_iload_n dX1_best_72 rfl ?_
  refine BS_aaload dX1_best_73 (by decide) (by decide) (C := "LongerHalf$Bone") rfl ?_
  refine BS_iconst dX1_best_74 (by decide) ?_
  refine BS_call ((run_or (run_U dX1_best_75 con_X11_size (ci := 8) rfl q1106 q888 q891 q887 q154 q892 (Or.inl ⟨_, _, _, q887, q892⟩) pu_Bo_size ⟨Nat.le_of_ble_eq_true rfl, Nat.le_of_ble_eq_true rfl⟩) (run_or (run_U dX1_best_75 con_X11_size (ci := 9) rfl q1106 q888 q890 q887 q154 q892 (Or.inl ⟨_, _, _, q887, q892⟩) pu_Bo_size ⟨Nat.le_of_ble_eq_true rfl, Nat.le_of_ble_eq_true rfl⟩) (run_U dX1_best_75 con_X11_size (ci := 10) rfl q1106 q888 q889 q887 q154 q892 (Or.inl ⟨_, _, _, q887, q892⟩) pu_Bo_size ⟨Nat.le_of_ble_eq_true rfl, Nat.le_of_ble_eq_true rfl⟩)))) BV_no ?_
  refine BS_imul dX1_best_78 ?_
  refine BS_icmp_ge (tgt := 186) dX1_best_79 (by decide) ?_ ?_
  · refine BS_exit ?_
    refine BS_iload dX1_best_186 ?_
    exact BS_ireturn dX1_best_188 rfl
  · refine BS_aload_n dX1_best_82 rfl ?_
    refine BS_gfr f_X1_108 dX1_best_83 ?_
    refine BS_gfr f_X1_176 dX1_best_86 ?_
    refine BS_iload_n dX1_best_89 rfl ?_
    refine BS_aaload dX1_best_90 (by decide) (by decide) (C := "LongerHalf$Person") rfl ?_
    refine BS_iload dX1_best_91 ?_
    refine BS_call (run_SN dX1_best_93 con_X6_can q1285 q1286 q144 q1287 pd_X6_can ⟨Nat.le_of_ble_eq_true rfl, Nat.le_of_ble_eq_true rfl⟩) BV_no ?_
    refine BS_if_ne (tgt := 102) dX1_best_96 (by decide) ?_ ?_
    · refine BS_aload_n dX1_best_102 rfl ?_
      refine BS_gfr f_X1_46 dX1_best_103 ?_
      refine BS_aload_n dX1_best_106 rfl ?_
      refine BS_gfr f_X1_108 dX1_best_107 ?_
      refine BS_gfr f_X1_176 dX1_best_110 ?_
      refine BS_iload_n dX1_best_113 rfl ?_
      refine BS_aaload dX1_best_114 (by decide) (by decide) (C := "LongerHalf$Person") rfl ?_
      refine BS_iload dX1_best_115 ?_
      refine BS_iconst dX1_best_117 (by decide) ?_
      refine BS_idiv dX1_best_118 ?_
      refine BS_iconst dX1_best_119 (by decide) ?_
      refine BS_iadd dX1_best_120 ?_
      refine BS_aload_n dX1_best_121 rfl ?_
      refine BS_gfr f_X1_108 dX1_best_122 ?_
      refine BS_gfr f_X1_176 dX1_best_125 ?_
      refine BS_iload_n dX1_best_128 rfl ?_
      refine BS_aaload dX1_best_129 (by decide) (by decide) (C := "LongerHalf$Person") rfl ?_
      refine BS_iload dX1_best_130 ?_
      refine BS_iload dX1_best_132 ?_
      refine BS_iconst dX1_best_134 (by decide) ?_
      refine BS_irem dX1_best_135 ?_
      refine BS_iconst dX1_best_136 (by decide) ?_
      refine BS_icmp_ne (tgt := 144) dX1_best_137 (by decide) ?_ ?_
      · refine BS_iconst dX1_best_144 (by decide) ?_
        exact bs_X1_best_b145
      · exact bs_X1_best_b140
    · exact bs_X1_best_b99
noncomputable def F_X1_best_b62 : KK OO := op_loop (F_X1_best_l62)
theorem bs_X1_best_b62 : B_S M_X1_best 62 (F_X1_best_b62) z_O k_O := BS_loop (bs_X1_best_l62)
noncomputable def F_X1_best_b0 : KK OO :=
  op_ald 0 <| op_call 1 (f_kd 10 F_X1_anew) kx_no <| op_ald 0 <| op_ild 1 <| op_call 2 (f_kd 10 F_X1_isBone) kx_no <| op_ieq (F_X1_best_b21) (op_ald 0 <| op_ild 2 <| op_ild 3 <| op_call 3 (f_kd 10 F_X1_isPair) kx_no <| op_ine (op_ald 0 <| op_ild 1 <| op_push (.int 1) <| op_ild 4 <| op_push (.int 0) <| op_call 5 (f_kd 10 F_X1_holdWhy) kx_no <| op_ieq (op_push (.int (-1)) <| op_ist 5 <| op_push (.long (-1)) <| op_lst 6 <| op_ald 0 <| op_ild 1 <| op_call 2 (f_kd 10 F_X1_lay) kx_no <| op_pop <| op_push (.int 0) <| op_ist 8 <| F_X1_best_b62) (op_ald 0 <| op_push (.int 2) <| op_call 2 (f_kd 10 F_X1_no) kx_no <| op_iret .int)) (F_X1_best_b21))
theorem bs_X1_best_b0 : B_S M_X1_best 0 (F_X1_best_b0) z_O k_O := by
  unfold F_X1_best_b0
  refine BS_aload_n dX1_best_0 rfl ?_
  refine BS_call (run_V dX1_best_1 con_X1_anew (ci := 0) rfl rfl q495 q497 qs2 q136 q498 pd_X1_anew ⟨Nat.le_of_ble_eq_true rfl, Nat.le_of_ble_eq_true rfl⟩) BV_no ?_
  refine BS_aload_n dX1_best_4 rfl ?_
  refine BS_iload_n dX1_best_5 rfl ?_
  refine BS_call (run_V dX1_best_6 con_X1_isBone (ci := 0) rfl rfl q1089 q1091 qs29 q136 q1092 pd_X1_isBone ⟨Nat.le_of_ble_eq_true rfl, Nat.le_of_ble_eq_true rfl⟩) BV_no ?_
  refine BS_if_eq (tgt := 21) dX1_best_9 (by decide) ?_ ?_
  · exact bs_X1_best_b21
  · refine BS_aload_n dX1_best_12 rfl ?_
    refine BS_iload_n dX1_best_13 rfl ?_
    refine BS_iload_n dX1_best_14 rfl ?_
    refine BS_call (run_V dX1_best_15 con_X1_isPair (ci := 0) rfl rfl q1184 q1186 qs35 q136 q1187 pd_X1_isPair ⟨Nat.le_of_ble_eq_true rfl, Nat.le_of_ble_eq_true rfl⟩) BV_no ?_
    refine BS_if_ne (tgt := 27) dX1_best_18 (by decide) ?_ ?_
    · refine BS_aload_n dX1_best_27 rfl ?_
      refine BS_iload_n dX1_best_28 rfl ?_
      refine BS_iconst dX1_best_29 (by decide) ?_
      refine BS_iload dX1_best_30 ?_
      refine BS_iconst dX1_best_32 (by decide) ?_
      refine BS_call (run_V dX1_best_33 con_X1_holdWhy (ci := 0) rfl rfl q1188 q1190 qs36 q136 q1191 pd_X1_holdWhy ⟨Nat.le_of_ble_eq_true rfl, Nat.le_of_ble_eq_true rfl⟩) BV_no ?_
      refine BS_if_eq (tgt := 45) dX1_best_36 (by decide) ?_ ?_
      · refine BS_iconst dX1_best_45 (by decide) ?_
        refine BS_istore dX1_best_46 (Nat.le_of_ble_eq_true rfl) ?_
        refine BS_ldc2 dX1_best_48 q1284 ?_
        refine BS_lstore dX1_best_51 (Nat.le_of_ble_eq_true rfl) ?_
        refine BS_aload_n dX1_best_53 rfl ?_
        refine BS_iload_n dX1_best_54 rfl ?_
        refine BS_call (run_V dX1_best_55 con_X1_lay (ci := 0) rfl rfl q1149 q1151 qs32 q136 q1152 pd_X1_lay ⟨Nat.le_of_ble_eq_true rfl, Nat.le_of_ble_eq_true rfl⟩) BV_no ?_
        refine BS_pop dX1_best_58 ?_
        refine BS_iconst dX1_best_59 (by decide) ?_
        refine BS_istore dX1_best_60 (Nat.le_of_ble_eq_true rfl) ?_
        exact bs_X1_best_b62
      · refine BS_aload_n dX1_best_39 rfl ?_
        refine BS_iconst dX1_best_40 (by decide) ?_
        refine BS_call (run_V dX1_best_41 con_X1_no (ci := 0) rfl rfl q502 q504 qs3 q136 q505 pd_X1_no ⟨Nat.le_of_ble_eq_true rfl, Nat.le_of_ble_eq_true rfl⟩) BV_no ?_
        exact BS_ireturn dX1_best_44 rfl
    · exact bs_X1_best_b21
noncomputable def F_X1_best : FF := mk_F 11 F_X1_best_b0
theorem con_X1_best : Con_ yX1_best (ws_ yX1_best cX1_best 11 (some .int)) 7 159 F_X1_best := Con_of (by decide +kernel) bs_X1_best_b0
/-- LongerHalf.layGame(III)Z -/
abbrev M_X1_layGame : MM := (yX1_layGame, cX1_layGame, (some .boolean), 8, 184, 4, [])
theorem pd_X1_layGame : (yX1_layGame.cls ≠ "java/lang/invoke/MethodHandle" ∧ yX1_layGame.cls ≠ "java/lang/invoke/VarHandle") ∧ (parseMethodDescriptor yX1_layGame.desc).map (fun d => d.parameters.length) = some 3 := ⟨⟨by decide +kernel, by decide +kernel⟩, by decide +kernel⟩
noncomputable def F_X1_layGame_b0 : KK OO :=
  op_ald 0 <| op_ild 1 <| op_call 2 (f_kd 10 F_X1_isBone) kx_no <| op_ieq (op_push (.int 0) <| op_iret .boolean) (op_ald 0 <| op_ild 2 <| op_ild 3 <| op_call 3 (f_kd 10 F_X1_isPair) kx_no <| op_ine (op_ald 0 <| op_ild 1 <| op_call 2 (f_kd 10 F_X1_lay) kx_no <| op_pop <| op_ald 0 <| op_gfr [10] 13 <| op_ald 0 <| op_gfr [10] 3 <| op_gfr [17] 68 <| op_ild 1 <| op_aald 8 <| op_ald 0 <| op_gfr [10] 3 <| op_gfr [17] 69 <| op_ild 2 <| op_aald 6 <| op_ald 0 <| op_gfr [10] 3 <| op_gfr [17] 69 <| op_ild 3 <| op_aald 6 <| op_call 4 (f_kd 15 F_X6_lay) kx_no <| op_push (.int 1) <| op_iret .boolean) (op_push (.int 0) <| op_iret .boolean))
theorem bs_X1_layGame_b0 : B_S M_X1_layGame 0 (F_X1_layGame_b0) z_O k_O := by
  unfold F_X1_layGame_b0
  refine BS_aload_n dX1_layGame_0 rfl ?_
  refine BS_iload_n dX1_layGame_1 rfl ?_
  refine BS_call (run_V dX1_layGame_2 con_X1_isBone (ci := 0) rfl rfl q1089 q1091 qs29 q136 q1092 pd_X1_isBone ⟨Nat.le_of_ble_eq_true rfl, Nat.le_of_ble_eq_true rfl⟩) BV_no ?_
  refine BS_if_eq (tgt := 17) dX1_layGame_5 (by decide) ?_ ?_
  · refine BS_iconst dX1_layGame_17 (by decide) ?_
    exact BS_ireturn dX1_layGame_18 rfl
  · refine BS_aload_n dX1_layGame_8 rfl ?_
    refine BS_iload_n dX1_layGame_9 rfl ?_
    refine BS_iload_n dX1_layGame_10 rfl ?_
    refine BS_call (run_V dX1_layGame_11 con_X1_isPair (ci := 0) rfl rfl q1184 q1186 qs35 q136 q1187 pd_X1_isPair ⟨Nat.le_of_ble_eq_true rfl, Nat.le_of_ble_eq_true rfl⟩) BV_no ?_
    refine BS_if_ne (tgt := 19) dX1_layGame_14 (by decide) ?_ ?_
    · refine BS_aload_n dX1_layGame_19 rfl ?_
      refine BS_iload_n dX1_layGame_20 rfl ?_
      refine BS_call (run_V dX1_layGame_21 con_X1_lay (ci := 0) rfl rfl q1149 q1151 qs32 q136 q1152 pd_X1_lay ⟨Nat.le_of_ble_eq_true rfl, Nat.le_of_ble_eq_true rfl⟩) BV_no ?_
      refine BS_pop dX1_layGame_24 ?_
      refine BS_aload_n dX1_layGame_25 rfl ?_
      refine BS_gfr f_X1_55 dX1_layGame_26 ?_
      refine BS_aload_n dX1_layGame_29 rfl ?_
      refine BS_gfr f_X1_108 dX1_layGame_30 ?_
      refine BS_gfr f_X1_143 dX1_layGame_33 ?_
      refine BS_iload_n dX1_layGame_36 rfl ?_
      refine BS_aaload dX1_layGame_37 (by decide) (by decide) (C := "LongerHalf$Bone") rfl ?_
      refine BS_aload_n dX1_layGame_38 rfl ?_
      refine BS_gfr f_X1_108 dX1_layGame_39 ?_
      refine BS_gfr f_X1_176 dX1_layGame_42 ?_
      refine BS_iload_n dX1_layGame_45 rfl ?_
      refine BS_aaload dX1_layGame_46 (by decide) (by decide) (C := "LongerHalf$Person") rfl ?_
      refine BS_aload_n dX1_layGame_47 rfl ?_
      refine BS_gfr f_X1_108 dX1_layGame_48 ?_
      refine BS_gfr f_X1_176 dX1_layGame_51 ?_
      refine BS_iload_n dX1_layGame_54 rfl ?_
      refine BS_aaload dX1_layGame_55 (by decide) (by decide) (C := "LongerHalf$Person") rfl ?_
      refine BS_call (run_V dX1_layGame_56 con_X6_lay (ci := 5) rfl rfl q1300 q1301 q1302 q144 q1303 pd_X6_lay ⟨Nat.le_of_ble_eq_true rfl, Nat.le_of_ble_eq_true rfl⟩) BV_no ?_
      refine BS_iconst dX1_layGame_59 (by decide) ?_
      exact BS_ireturn dX1_layGame_60 rfl
    · refine BS_iconst dX1_layGame_17 (by decide) ?_
      exact BS_ireturn dX1_layGame_18 rfl
noncomputable def F_X1_layGame : FF := mk_F 4 F_X1_layGame_b0
theorem con_X1_layGame : Con_ yX1_layGame (ws_ yX1_layGame cX1_layGame 4 (some .boolean)) 8 184 F_X1_layGame := Con_of (by decide +kernel) bs_X1_layGame_b0
/-- LongerHalf.rests(III)I -/
abbrev M_X1_rests : MM := (yX1_rests, cX1_rests, (some .int), 9, 207, 4, [])
theorem pd_X1_rests : (yX1_rests.cls ≠ "java/lang/invoke/MethodHandle" ∧ yX1_rests.cls ≠ "java/lang/invoke/VarHandle") ∧ (parseMethodDescriptor yX1_rests.desc).map (fun d => d.parameters.length) = some 3 := ⟨⟨by decide +kernel, by decide +kernel⟩, by decide +kernel⟩
noncomputable def F_X1_rests_b0 : KK OO :=
  op_ald 0 <| op_call 1 (f_kd 10 F_X1_anew) kx_no <| op_ald 0 <| op_ild 1 <| op_ild 2 <| op_ild 3 <| op_call 4 (f_kd 10 F_X1_layGame) kx_no <| op_ine (op_ald 0 <| op_gfr [10] 13 <| op_call 1 (f_kd 15 F_X6_seekRests) kx_no <| op_ald 0 <| op_gfr [10] 13 <| op_gfi [15] 61 <| op_iret .int) (op_ald 0 <| op_push (.int 1) <| op_call 2 (f_kd 10 F_X1_no) kx_no <| op_iret .int)
theorem bs_X1_rests_b0 : B_S M_X1_rests 0 (F_X1_rests_b0) z_O k_O := by
  unfold F_X1_rests_b0
  refine BS_aload_n dX1_rests_0 rfl ?_
  refine BS_call (run_V dX1_rests_1 con_X1_anew (ci := 0) rfl rfl q495 q497 qs2 q136 q498 pd_X1_anew ⟨Nat.le_of_ble_eq_true rfl, Nat.le_of_ble_eq_true rfl⟩) BV_no ?_
  refine BS_aload_n dX1_rests_4 rfl ?_
  refine BS_iload_n dX1_rests_5 rfl ?_
  refine BS_iload_n dX1_rests_6 rfl ?_
  refine BS_iload_n dX1_rests_7 rfl ?_
  refine BS_call (run_V dX1_rests_8 con_X1_layGame (ci := 0) rfl rfl q1296 q1298 qs41 q136 q1299 pd_X1_layGame ⟨Nat.le_of_ble_eq_true rfl, Nat.le_of_ble_eq_true rfl⟩) BV_no ?_
  refine BS_if_ne (tgt := 20) dX1_rests_11 (by decide) ?_ ?_
  · refine BS_aload_n dX1_rests_20 rfl ?_
    refine BS_gfr f_X1_55 dX1_rests_21 ?_
    refine BS_call (run_V dX1_rests_24 con_X6_seekRests (ci := 5) rfl rfl q1307 q1308 q1309 q144 q1310 pd_X6_seekRests ⟨Nat.le_of_ble_eq_true rfl, Nat.le_of_ble_eq_true rfl⟩) BV_no ?_
    refine BS_aload_n dX1_rests_27 rfl ?_
    refine BS_gfr f_X1_55 dX1_rests_28 ?_
    refine BS_gfi f_X1_278 dX1_rests_31 ?_
    exact BS_ireturn dX1_rests_34 rfl
  · refine BS_aload_n dX1_rests_14 rfl ?_
    refine BS_iconst dX1_rests_15 (by decide) ?_
    refine BS_call (run_V dX1_rests_16 con_X1_no (ci := 0) rfl rfl q502 q504 qs3 q136 q505 pd_X1_no ⟨Nat.le_of_ble_eq_true rfl, Nat.le_of_ble_eq_true rfl⟩) BV_no ?_
    exact BS_ireturn dX1_rests_19 rfl
noncomputable def F_X1_rests : FF := mk_F 4 F_X1_rests_b0
theorem con_X1_rests : Con_ yX1_rests (ws_ yX1_rests cX1_rests 4 (some .int)) 9 207 F_X1_rests := Con_of (by decide +kernel) bs_X1_rests_b0
/-- LongerHalf.rest(III)I -/
abbrev M_X1_rest : MM := (yX1_rest, cX1_rest, (some .int), 9, 207, 4, [])
theorem pd_X1_rest : (yX1_rest.cls ≠ "java/lang/invoke/MethodHandle" ∧ yX1_rest.cls ≠ "java/lang/invoke/VarHandle") ∧ (parseMethodDescriptor yX1_rest.desc).map (fun d => d.parameters.length) = some 3 := ⟨⟨by decide +kernel, by decide +kernel⟩, by decide +kernel⟩
noncomputable def F_X1_rest_b0 : KK OO :=
  op_ald 0 <| op_call 1 (f_kd 10 F_X1_anew) kx_no <| op_ald 0 <| op_ild 1 <| op_ild 2 <| op_ild 3 <| op_call 4 (f_kd 10 F_X1_layGame) kx_no <| op_ine (op_ald 0 <| op_gfr [10] 13 <| op_call 1 (f_kd 15 F_X6_seekRests) kx_no <| op_ald 0 <| op_gfr [10] 13 <| op_gfi [15] 62 <| op_iret .int) (op_ald 0 <| op_push (.int 1) <| op_call 2 (f_kd 10 F_X1_no) kx_no <| op_iret .int)
theorem bs_X1_rest_b0 : B_S M_X1_rest 0 (F_X1_rest_b0) z_O k_O := by
  unfold F_X1_rest_b0
  refine BS_aload_n dX1_rest_0 rfl ?_
  refine BS_call (run_V dX1_rest_1 con_X1_anew (ci := 0) rfl rfl q495 q497 qs2 q136 q498 pd_X1_anew ⟨Nat.le_of_ble_eq_true rfl, Nat.le_of_ble_eq_true rfl⟩) BV_no ?_
  refine BS_aload_n dX1_rest_4 rfl ?_
  refine BS_iload_n dX1_rest_5 rfl ?_
  refine BS_iload_n dX1_rest_6 rfl ?_
  refine BS_iload_n dX1_rest_7 rfl ?_
  refine BS_call (run_V dX1_rest_8 con_X1_layGame (ci := 0) rfl rfl q1296 q1298 qs41 q136 q1299 pd_X1_layGame ⟨Nat.le_of_ble_eq_true rfl, Nat.le_of_ble_eq_true rfl⟩) BV_no ?_
  refine BS_if_ne (tgt := 20) dX1_rest_11 (by decide) ?_ ?_
  · refine BS_aload_n dX1_rest_20 rfl ?_
    refine BS_gfr f_X1_55 dX1_rest_21 ?_
    refine BS_call (run_V dX1_rest_24 con_X6_seekRests (ci := 5) rfl rfl q1307 q1308 q1309 q144 q1310 pd_X6_seekRests ⟨Nat.le_of_ble_eq_true rfl, Nat.le_of_ble_eq_true rfl⟩) BV_no ?_
    refine BS_aload_n dX1_rest_27 rfl ?_
    refine BS_gfr f_X1_55 dX1_rest_28 ?_
    refine BS_gfi f_X1_281 dX1_rest_31 ?_
    exact BS_ireturn dX1_rest_34 rfl
  · refine BS_aload_n dX1_rest_14 rfl ?_
    refine BS_iconst dX1_rest_15 (by decide) ?_
    refine BS_call (run_V dX1_rest_16 con_X1_no (ci := 0) rfl rfl q502 q504 qs3 q136 q505 pd_X1_no ⟨Nat.le_of_ble_eq_true rfl, Nat.le_of_ble_eq_true rfl⟩) BV_no ?_
    exact BS_ireturn dX1_rest_19 rfl
noncomputable def F_X1_rest : FF := mk_F 4 F_X1_rest_b0
theorem con_X1_rest : Con_ yX1_rest (ws_ yX1_rest cX1_rest 4 (some .int)) 9 207 F_X1_rest := Con_of (by decide +kernel) bs_X1_rest_b0
/-- LongerHalf.sure(IIIZ)J -/
abbrev M_X1_sure : MM := (yX1_sure, cX1_sure, (some .long), 202, 4647, 5, [])
theorem pd_X1_sure : (yX1_sure.cls ≠ "java/lang/invoke/MethodHandle" ∧ yX1_sure.cls ≠ "java/lang/invoke/VarHandle") ∧ (parseMethodDescriptor yX1_sure.desc).map (fun d => d.parameters.length) = some 4 := ⟨⟨by decide +kernel, by decide +kernel⟩, by decide +kernel⟩
noncomputable def F_X1_sure_b0 : KK OO :=
  op_ald 0 <| op_call 1 (f_kd 10 F_X1_anew) kx_no <| op_ald 0 <| op_ild 1 <| op_ild 2 <| op_ild 3 <| op_call 4 (f_kd 10 F_X1_layGame) kx_no <| op_ine (op_ald 0 <| op_gfr [10] 13 <| op_call 1 (f_kd 15 F_X6_sure) kx_no <| op_ald 0 <| op_gfr [10] 12 <| op_call 1 (f_kd 14 F_X5_all) kx_no <| op_ild 4 <| op_call 3 F_X1_lowest kx_no <| op_lret) (op_ald 0 <| op_push (.int 1) <| op_call 2 (f_kd 10 F_X1_no) kx_no <| op_i2l <| op_lret)
theorem bs_X1_sure_b0 : B_S M_X1_sure 0 (F_X1_sure_b0) z_O k_O := by
  unfold F_X1_sure_b0
  refine BS_aload_n dX1_sure_0 rfl ?_
  refine BS_call (run_V dX1_sure_1 con_X1_anew (ci := 0) rfl rfl q495 q497 qs2 q136 q498 pd_X1_anew ⟨Nat.le_of_ble_eq_true rfl, Nat.le_of_ble_eq_true rfl⟩) BV_no ?_
  refine BS_aload_n dX1_sure_4 rfl ?_
  refine BS_iload_n dX1_sure_5 rfl ?_
  refine BS_iload_n dX1_sure_6 rfl ?_
  refine BS_iload_n dX1_sure_7 rfl ?_
  refine BS_call (run_V dX1_sure_8 con_X1_layGame (ci := 0) rfl rfl q1296 q1298 qs41 q136 q1299 pd_X1_layGame ⟨Nat.le_of_ble_eq_true rfl, Nat.le_of_ble_eq_true rfl⟩) BV_no ?_
  refine BS_if_ne (tgt := 21) dX1_sure_11 (by decide) ?_ ?_
  · refine BS_aload_n dX1_sure_21 rfl ?_
    refine BS_gfr f_X1_55 dX1_sure_22 ?_
    refine BS_call (run_V dX1_sure_25 con_X6_sure (ci := 5) rfl rfl q1325 q1326 q1327 q144 q1328 pd_X6_sure ⟨Nat.le_of_ble_eq_true rfl, Nat.le_of_ble_eq_true rfl⟩) BV_no ?_
    refine BS_aload_n dX1_sure_28 rfl ?_
    refine BS_gfr f_X1_46 dX1_sure_29 ?_
    refine BS_call (run_V dX1_sure_32 con_X5_all (ci := 4) rfl rfl q1269 q1270 q1271 q143 q1272 pd_X5_all ⟨Nat.le_of_ble_eq_true rfl, Nat.le_of_ble_eq_true rfl⟩) BV_no ?_
    refine BS_iload dX1_sure_35 ?_
    refine BS_call (run_S dX1_sure_37 con_X1_lowest q1274 q1275 q136 q1276 pd_X1_lowest ⟨Nat.le_of_ble_eq_true rfl, Nat.le_of_ble_eq_true rfl⟩) BV_no ?_
    exact BS_lreturn dX1_sure_40 rfl
  · refine BS_aload_n dX1_sure_14 rfl ?_
    refine BS_iconst dX1_sure_15 (by decide) ?_
    refine BS_call (run_V dX1_sure_16 con_X1_no (ci := 0) rfl rfl q502 q504 qs3 q136 q505 pd_X1_no ⟨Nat.le_of_ble_eq_true rfl, Nat.le_of_ble_eq_true rfl⟩) BV_no ?_
    refine BS_i2l dX1_sure_19 ?_
    exact BS_lreturn dX1_sure_20 rfl
noncomputable def F_X1_sure : FF := mk_F 5 F_X1_sure_b0
theorem con_X1_sure : Con_ yX1_sure (ws_ yX1_sure cX1_sure 5 (some .long)) 202 4647 F_X1_sure := Con_of (by decide +kernel) bs_X1_sure_b0
/-- LongerHalf.curveOf(IIII)J -/
abbrev M_X1_curveOf : MM := (yX1_curveOf, cX1_curveOf, (some .long), 7, 159, 5, [])
theorem pd_X1_curveOf : (yX1_curveOf.cls ≠ "java/lang/invoke/MethodHandle" ∧ yX1_curveOf.cls ≠ "java/lang/invoke/VarHandle") ∧ (parseMethodDescriptor yX1_curveOf.desc).map (fun d => d.parameters.length) = some 4 := ⟨⟨by decide +kernel, by decide +kernel⟩, by decide +kernel⟩
noncomputable def F_X1_curveOf_b0 : KK OO :=
  op_ald 0 <| op_ild 1 <| op_ild 4 <| op_call 3 (f_kd 10 F_X1_layDried) kx_no <| op_ald 0 <| op_gfr [10] 3 <| op_gfr [17] 69 <| op_ild 2 <| op_aald 6 <| op_ald 0 <| op_gfr [10] 3 <| op_gfr [17] 69 <| op_ild 3 <| op_aald 6 <| op_call 3 (f_kd 14 F_X5_asTold) kx_no <| op_ald 0 <| op_gfr [10] 12 <| op_push (.int 0) <| op_call 2 (f_kd 14 F_X5_odds) kx_no <| op_lret
theorem bs_X1_curveOf_b0 : B_S M_X1_curveOf 0 (F_X1_curveOf_b0) z_O k_O := by
  unfold F_X1_curveOf_b0
  refine BS_aload_n dX1_curveOf_0 rfl ?_
  refine BS_iload_n dX1_curveOf_1 rfl ?_
  refine BS_iload dX1_curveOf_2 ?_
  refine BS_call (run_V dX1_curveOf_4 con_X1_layDried (ci := 0) rfl rfl q1153 q1155 qs33 q136 q1156 pd_X1_layDried ⟨Nat.le_of_ble_eq_true rfl, Nat.le_of_ble_eq_true rfl⟩) BV_no ?_
  refine BS_aload_n dX1_curveOf_7 rfl ?_
  refine BS_gfr f_X1_108 dX1_curveOf_8 ?_
  refine BS_gfr f_X1_176 dX1_curveOf_11 ?_
  refine BS_iload_n dX1_curveOf_14 rfl ?_
  refine BS_aaload dX1_curveOf_15 (by decide) (by decide) (C := "LongerHalf$Person") rfl ?_
  refine BS_aload_n dX1_curveOf_16 rfl ?_
  refine BS_gfr f_X1_108 dX1_curveOf_17 ?_
  refine BS_gfr f_X1_176 dX1_curveOf_20 ?_
  refine BS_iload_n dX1_curveOf_23 rfl ?_
  refine BS_aaload dX1_curveOf_24 (by decide) (by decide) (C := "LongerHalf$Person") rfl ?_
  refine BS_call (run_V dX1_curveOf_25 con_X5_asTold (ci := 4) rfl rfl q1345 q1346 q1347 q143 q1348 pd_X5_asTold ⟨Nat.le_of_ble_eq_true rfl, Nat.le_of_ble_eq_true rfl⟩) BV_no ?_
  refine BS_aload_n dX1_curveOf_28 rfl ?_
  refine BS_gfr f_X1_46 dX1_curveOf_29 ?_
  refine BS_iconst dX1_curveOf_32 (by decide) ?_
  refine BS_call (run_V dX1_curveOf_33 con_X5_odds (ci := 4) rfl rfl q1256 q1257 q1258 q143 q1259 pd_X5_odds ⟨Nat.le_of_ble_eq_true rfl, Nat.le_of_ble_eq_true rfl⟩) BV_no ?_
  exact BS_lreturn dX1_curveOf_36 rfl
noncomputable def F_X1_curveOf : FF := mk_F 5 F_X1_curveOf_b0
theorem con_X1_curveOf : Con_ yX1_curveOf (ws_ yX1_curveOf cX1_curveOf 5 (some .long)) 7 159 F_X1_curveOf := Con_of (by decide +kernel) bs_X1_curveOf_b0
/-- LongerHalf.curve(IIIIZ)J -/
abbrev M_X1_curve : MM := (yX1_curve, cX1_curve, (some .long), 202, 4647, 6, [])
theorem pd_X1_curve : (yX1_curve.cls ≠ "java/lang/invoke/MethodHandle" ∧ yX1_curve.cls ≠ "java/lang/invoke/VarHandle") ∧ (parseMethodDescriptor yX1_curve.desc).map (fun d => d.parameters.length) = some 5 := ⟨⟨by decide +kernel, by decide +kernel⟩, by decide +kernel⟩
noncomputable def F_X1_curve_b21 : KK OO :=
  op_ald 0 <| op_push (.int 1) <| op_call 2 (f_kd 10 F_X1_no) kx_no <| op_i2l <| op_lret
theorem bs_X1_curve_b21 : B_S M_X1_curve 21 (F_X1_curve_b21) z_O k_O := by
  unfold F_X1_curve_b21
  refine BS_aload_n dX1_curve_21 rfl ?_
  refine BS_iconst dX1_curve_22 (by decide) ?_
  refine BS_call (run_V dX1_curve_23 con_X1_no (ci := 0) rfl rfl q502 q504 qs3 q136 q505 pd_X1_no ⟨Nat.le_of_ble_eq_true rfl, Nat.le_of_ble_eq_true rfl⟩) BV_no ?_
  refine BS_i2l dX1_curve_26 ?_
  exact BS_lreturn dX1_curve_27 rfl
noncomputable def F_X1_curve_b0 : KK OO :=
  op_ald 0 <| op_call 1 (f_kd 10 F_X1_anew) kx_no <| op_ald 0 <| op_ild 1 <| op_call 2 (f_kd 10 F_X1_isBone) kx_no <| op_ieq (F_X1_curve_b21) (op_ald 0 <| op_ild 2 <| op_ild 3 <| op_call 3 (f_kd 10 F_X1_isPair) kx_no <| op_ine (op_ild 4 <| op_push (.int 0) <| op_push (.int 24) <| op_call 3 F_X1_in kx_no <| op_ine (op_ald 0 <| op_ild 1 <| op_ild 2 <| op_ild 3 <| op_ild 4 <| op_call 5 (f_kd 10 F_X1_curveOf) kx_no <| op_ald 0 <| op_gfr [10] 12 <| op_call 1 (f_kd 14 F_X5_all) kx_no <| op_ild 5 <| op_call 3 F_X1_lowest kx_no <| op_lret) (op_ald 0 <| op_push (.int 2) <| op_call 2 (f_kd 10 F_X1_no) kx_no <| op_i2l <| op_lret)) (F_X1_curve_b21))
theorem bs_X1_curve_b0 : B_S M_X1_curve 0 (F_X1_curve_b0) z_O k_O := by
  unfold F_X1_curve_b0
  refine BS_aload_n dX1_curve_0 rfl ?_
  refine BS_call (run_V dX1_curve_1 con_X1_anew (ci := 0) rfl rfl q495 q497 qs2 q136 q498 pd_X1_anew ⟨Nat.le_of_ble_eq_true rfl, Nat.le_of_ble_eq_true rfl⟩) BV_no ?_
  refine BS_aload_n dX1_curve_4 rfl ?_
  refine BS_iload_n dX1_curve_5 rfl ?_
  refine BS_call (run_V dX1_curve_6 con_X1_isBone (ci := 0) rfl rfl q1089 q1091 qs29 q136 q1092 pd_X1_isBone ⟨Nat.le_of_ble_eq_true rfl, Nat.le_of_ble_eq_true rfl⟩) BV_no ?_
  refine BS_if_eq (tgt := 21) dX1_curve_9 (by decide) ?_ ?_
  · exact bs_X1_curve_b21
  · refine BS_aload_n dX1_curve_12 rfl ?_
    refine BS_iload_n dX1_curve_13 rfl ?_
    refine BS_iload_n dX1_curve_14 rfl ?_
    refine BS_call (run_V dX1_curve_15 con_X1_isPair (ci := 0) rfl rfl q1184 q1186 qs35 q136 q1187 pd_X1_isPair ⟨Nat.le_of_ble_eq_true rfl, Nat.le_of_ble_eq_true rfl⟩) BV_no ?_
    refine BS_if_ne (tgt := 28) dX1_curve_18 (by decide) ?_ ?_
    · refine BS_iload dX1_curve_28 ?_
      refine BS_iconst dX1_curve_30 (by decide) ?_
      refine BS_bipush dX1_curve_31 (by decide) ?_
      refine BS_call (run_S dX1_curve_33 con_X1_in q499 q500 q136 q501 pd_X1_in ⟨Nat.le_of_ble_eq_true rfl, Nat.le_of_ble_eq_true rfl⟩) BV_no ?_
      refine BS_if_ne (tgt := 46) dX1_curve_36 (by decide) ?_ ?_
      · refine BS_aload_n dX1_curve_46 rfl ?_
        refine BS_iload_n dX1_curve_47 rfl ?_
        refine BS_iload_n dX1_curve_48 rfl ?_
        refine BS_iload_n dX1_curve_49 rfl ?_
        refine BS_iload dX1_curve_50 ?_
        refine BS_call (run_V dX1_curve_52 con_X1_curveOf (ci := 0) rfl rfl q1341 q1343 qs43 q136 q1344 pd_X1_curveOf ⟨Nat.le_of_ble_eq_true rfl, Nat.le_of_ble_eq_true rfl⟩) BV_no ?_
        refine BS_aload_n dX1_curve_55 rfl ?_
        refine BS_gfr f_X1_46 dX1_curve_56 ?_
        refine BS_call (run_V dX1_curve_59 con_X5_all (ci := 4) rfl rfl q1269 q1270 q1271 q143 q1272 pd_X5_all ⟨Nat.le_of_ble_eq_true rfl, Nat.le_of_ble_eq_true rfl⟩) BV_no ?_
        refine BS_iload dX1_curve_62 ?_
        refine BS_call (run_S dX1_curve_64 con_X1_lowest q1274 q1275 q136 q1276 pd_X1_lowest ⟨Nat.le_of_ble_eq_true rfl, Nat.le_of_ble_eq_true rfl⟩) BV_no ?_
        exact BS_lreturn dX1_curve_67 rfl
      · refine BS_aload_n dX1_curve_39 rfl ?_
        refine BS_iconst dX1_curve_40 (by decide) ?_
        refine BS_call (run_V dX1_curve_41 con_X1_no (ci := 0) rfl rfl q502 q504 qs3 q136 q505 pd_X1_no ⟨Nat.le_of_ble_eq_true rfl, Nat.le_of_ble_eq_true rfl⟩) BV_no ?_
        refine BS_i2l dX1_curve_44 ?_
        exact BS_lreturn dX1_curve_45 rfl
    · exact bs_X1_curve_b21
noncomputable def F_X1_curve : FF := mk_F 6 F_X1_curve_b0
theorem con_X1_curve : Con_ yX1_curve (ws_ yX1_curve cX1_curve 6 (some .long)) 202 4647 F_X1_curve := Con_of (by decide +kernel) bs_X1_curve_b0
/-- LongerHalf.bestDay(III)I -/
abbrev M_X1_bestDay : MM := (yX1_bestDay, cX1_bestDay, (some .int), 8, 183, 6, [])
theorem pd_X1_bestDay : (yX1_bestDay.cls ≠ "java/lang/invoke/MethodHandle" ∧ yX1_bestDay.cls ≠ "java/lang/invoke/VarHandle") ∧ (parseMethodDescriptor yX1_bestDay.desc).map (fun d => d.parameters.length) = some 3 := ⟨⟨by decide +kernel, by decide +kernel⟩, by decide +kernel⟩
noncomputable def F_X1_bestDay_b21 : KK OO :=
  op_ald 0 <| op_push (.int 1) <| op_call 2 (f_kd 10 F_X1_no) kx_no <| op_iret .int
theorem bs_X1_bestDay_b21 : B_S M_X1_bestDay 21 (F_X1_bestDay_b21) z_O k_O := by
  unfold F_X1_bestDay_b21
  refine BS_aload_n dX1_bestDay_21 rfl ?_
  refine BS_iconst dX1_bestDay_22 (by decide) ?_
  refine BS_call (run_V dX1_bestDay_23 con_X1_no (ci := 0) rfl rfl q502 q504 qs3 q136 q505 pd_X1_no ⟨Nat.le_of_ble_eq_true rfl, Nat.le_of_ble_eq_true rfl⟩) BV_no ?_
  exact BS_ireturn dX1_bestDay_26 rfl
noncomputable def F_X1_bestDay_l33 : KK (L_S ⊕ OO) :=
  op_ild 5 <| op_push (.int 24) <| op_cgt (op_exit <| op_ild 4 <| op_iret .int) (op_ald 0 <| op_ild 1 <| op_ild 2 <| op_ild 3 <| op_ild 5 <| op_call 5 (f_kd 10 F_X1_curveOf) kx_no <| op_ald 0 <| op_ild 1 <| op_ild 2 <| op_ild 3 <| op_ild 4 <| op_call 5 (f_kd 10 F_X1_curveOf) kx_no <| op_lcmp <| op_ile (op_iinc 5 1 <| op_back) (op_ild 5 <| op_ist 4 <| op_iinc 5 1 <| op_back))
theorem bs_X1_bestDay_l33 : B_S M_X1_bestDay 33 (F_X1_bestDay_l33) (z_L z_O) (k_L 33 k_O) := by
  unfold F_X1_bestDay_l33
  refine BS_iload dX1_bestDay_33 ?_
  refine BS_bipush dX1_bestDay_35 (by decide) ?_
  refine BS_icmp_gt (tgt := 72) dX1_bestDay_37 (by decide) ?_ ?_
  · refine BS_exit ?_
    refine BS_iload dX1_bestDay_72 ?_
    exact BS_ireturn dX1_bestDay_74 rfl
  · refine BS_aload_n dX1_bestDay_40 rfl ?_
    refine BS_iload_n dX1_bestDay_41 rfl ?_
    refine BS_iload_n dX1_bestDay_42 rfl ?_
    refine BS_iload_n dX1_bestDay_43 rfl ?_
    refine BS_iload dX1_bestDay_44 ?_
    refine BS_call (run_V dX1_bestDay_46 con_X1_curveOf (ci := 0) rfl rfl q1341 q1343 qs43 q136 q1344 pd_X1_curveOf ⟨Nat.le_of_ble_eq_true rfl, Nat.le_of_ble_eq_true rfl⟩) BV_no ?_
    refine BS_aload_n dX1_bestDay_49 rfl ?_
    refine BS_iload_n dX1_bestDay_50 rfl ?_
    refine BS_iload_n dX1_bestDay_51 rfl ?_
    refine BS_iload_n dX1_bestDay_52 rfl ?_
    refine BS_iload dX1_bestDay_53 ?_
    refine BS_call (run_V dX1_bestDay_55 con_X1_curveOf (ci := 0) rfl rfl q1341 q1343 qs43 q136 q1344 pd_X1_curveOf ⟨Nat.le_of_ble_eq_true rfl, Nat.le_of_ble_eq_true rfl⟩) BV_no ?_
    refine BS_lcmp dX1_bestDay_58 ?_
    refine BS_if_le (tgt := 66) dX1_bestDay_59 (by decide) ?_ ?_
    · refine BS_iinc dX1_bestDay_66 (by decide) (Nat.le_of_ble_eq_true rfl) ?_
      refine BS_goto (tgt := 33) dX1_bestDay_69 (by decide) ?_
      exact BS_back
    · refine BS_iload dX1_bestDay_62 ?_
      refine BS_istore dX1_bestDay_64 (Nat.le_of_ble_eq_true rfl) ?_
      refine BS_iinc dX1_bestDay_66 (by decide) (Nat.le_of_ble_eq_true rfl) ?_
      refine BS_goto (tgt := 33) dX1_bestDay_69 (by decide) ?_
      exact BS_back
noncomputable def F_X1_bestDay_b33 : KK OO := op_loop (F_X1_bestDay_l33)
theorem bs_X1_bestDay_b33 : B_S M_X1_bestDay 33 (F_X1_bestDay_b33) z_O k_O := BS_loop (bs_X1_bestDay_l33)
noncomputable def F_X1_bestDay_b0 : KK OO :=
  op_ald 0 <| op_call 1 (f_kd 10 F_X1_anew) kx_no <| op_ald 0 <| op_ild 1 <| op_call 2 (f_kd 10 F_X1_isBone) kx_no <| op_ieq (F_X1_bestDay_b21) (op_ald 0 <| op_ild 2 <| op_ild 3 <| op_call 3 (f_kd 10 F_X1_isPair) kx_no <| op_ine (op_push (.int 0) <| op_ist 4 <| op_push (.int 1) <| op_ist 5 <| F_X1_bestDay_b33) (F_X1_bestDay_b21))
theorem bs_X1_bestDay_b0 : B_S M_X1_bestDay 0 (F_X1_bestDay_b0) z_O k_O := by
  unfold F_X1_bestDay_b0
  refine BS_aload_n dX1_bestDay_0 rfl ?_
  refine BS_call (run_V dX1_bestDay_1 con_X1_anew (ci := 0) rfl rfl q495 q497 qs2 q136 q498 pd_X1_anew ⟨Nat.le_of_ble_eq_true rfl, Nat.le_of_ble_eq_true rfl⟩) BV_no ?_
  refine BS_aload_n dX1_bestDay_4 rfl ?_
  refine BS_iload_n dX1_bestDay_5 rfl ?_
  refine BS_call (run_V dX1_bestDay_6 con_X1_isBone (ci := 0) rfl rfl q1089 q1091 qs29 q136 q1092 pd_X1_isBone ⟨Nat.le_of_ble_eq_true rfl, Nat.le_of_ble_eq_true rfl⟩) BV_no ?_
  refine BS_if_eq (tgt := 21) dX1_bestDay_9 (by decide) ?_ ?_
  · exact bs_X1_bestDay_b21
  · refine BS_aload_n dX1_bestDay_12 rfl ?_
    refine BS_iload_n dX1_bestDay_13 rfl ?_
    refine BS_iload_n dX1_bestDay_14 rfl ?_
    refine BS_call (run_V dX1_bestDay_15 con_X1_isPair (ci := 0) rfl rfl q1184 q1186 qs35 q136 q1187 pd_X1_isPair ⟨Nat.le_of_ble_eq_true rfl, Nat.le_of_ble_eq_true rfl⟩) BV_no ?_
    refine BS_if_ne (tgt := 27) dX1_bestDay_18 (by decide) ?_ ?_
    · refine BS_iconst dX1_bestDay_27 (by decide) ?_
      refine BS_istore dX1_bestDay_28 (Nat.le_of_ble_eq_true rfl) ?_
      refine BS_iconst dX1_bestDay_30 (by decide) ?_
      refine BS_istore dX1_bestDay_31 (Nat.le_of_ble_eq_true rfl) ?_
      exact bs_X1_bestDay_b33
    · exact bs_X1_bestDay_b21
noncomputable def F_X1_bestDay : FF := mk_F 6 F_X1_bestDay_b0
theorem con_X1_bestDay : Con_ yX1_bestDay (ws_ yX1_bestDay cX1_bestDay 6 (some .int)) 8 183 F_X1_bestDay := Con_of (by decide +kernel) bs_X1_bestDay_b0
/-- LongerHalf.oddsOn(IIII)J -/
abbrev M_X1_oddsOn : MM := (yX1_oddsOn, cX1_oddsOn, (some .long), 7, 159, 7, [])
theorem pd_X1_oddsOn : (yX1_oddsOn.cls ≠ "java/lang/invoke/MethodHandle" ∧ yX1_oddsOn.cls ≠ "java/lang/invoke/VarHandle") ∧ (parseMethodDescriptor yX1_oddsOn.desc).map (fun d => d.parameters.length) = some 4 := ⟨⟨by decide +kernel, by decide +kernel⟩, by decide +kernel⟩
noncomputable def F_X1_oddsOn_b37 : KK OO :=
  op_aald 6 <| op_ast 6 <| op_ald 0 <| op_ild 1 <| op_call 2 (f_kd 10 F_X1_lay) kx_no <| op_ald 5 <| op_ald 6 <| op_call 3 (f_kd 14 F_X5_asTold) kx_no <| op_ald 0 <| op_gfr [10] 12 <| op_ild 4 <| op_call 2 (f_kd 14 F_X5_odds) kx_no <| op_lret
theorem bs_X1_oddsOn_b37 : B_S M_X1_oddsOn 37 (F_X1_oddsOn_b37) z_O k_O := by
  unfold F_X1_oddsOn_b37
  refine BS_aaload dX1_oddsOn_37 (by decide) (by decide) (C := "LongerHalf$Person") rfl ?_
  refine BS_astore dX1_oddsOn_38 (Nat.le_of_ble_eq_true rfl) ?_
  refine BS_aload_n dX1_oddsOn_40 rfl ?_
  refine BS_iload_n dX1_oddsOn_41 rfl ?_
  refine BS_call (run_V dX1_oddsOn_42 con_X1_lay (ci := 0) rfl rfl q1149 q1151 qs32 q136 q1152 pd_X1_lay ⟨Nat.le_of_ble_eq_true rfl, Nat.le_of_ble_eq_true rfl⟩) BV_no ?_
  refine BS_aload dX1_oddsOn_45 ?_
  refine BS_aload dX1_oddsOn_47 ?_
  refine BS_call (run_V dX1_oddsOn_49 con_X5_asTold (ci := 4) rfl rfl q1345 q1346 q1347 q143 q1348 pd_X5_asTold ⟨Nat.le_of_ble_eq_true rfl, Nat.le_of_ble_eq_true rfl⟩) BV_no ?_
  refine BS_aload_n dX1_oddsOn_52 rfl ?_
  refine BS_gfr f_X1_46 dX1_oddsOn_53 ?_
  refine BS_iload dX1_oddsOn_56 ?_
  refine BS_call (run_V dX1_oddsOn_58 con_X5_odds (ci := 4) rfl rfl q1256 q1257 q1258 q143 q1259 pd_X5_odds ⟨Nat.le_of_ble_eq_true rfl, Nat.le_of_ble_eq_true rfl⟩) BV_no ?_
  exact BS_lreturn dX1_oddsOn_61 rfl
noncomputable def F_X1_oddsOn_b17 : KK OO :=
  op_aald 6 <| op_ast 5 <| op_ald 0 <| op_gfr [10] 3 <| op_gfr [17] 69 <| op_ild 4 <| op_ine (op_ild 2 <| F_X1_oddsOn_b37) (op_ild 3 <| F_X1_oddsOn_b37)
theorem bs_X1_oddsOn_b17 : B_S M_X1_oddsOn 17 (F_X1_oddsOn_b17) z_O k_O := by
  unfold F_X1_oddsOn_b17
  refine BS_aaload dX1_oddsOn_17 (by decide) (by decide) (C := "LongerHalf$Person") rfl ?_
  refine BS_astore dX1_oddsOn_18 (Nat.le_of_ble_eq_true rfl) ?_
  refine BS_aload_n dX1_oddsOn_20 rfl ?_
  refine BS_gfr f_X1_108 dX1_oddsOn_21 ?_
  refine BS_gfr f_X1_176 dX1_oddsOn_24 ?_
  refine BS_iload dX1_oddsOn_27 ?_
  refine BS_if_ne (tgt := 36) dX1_oddsOn_29 (by decide) ?_ ?_
  · refine BS_iload_n dX1_oddsOn_36 rfl ?_
    exact bs_X1_oddsOn_b37
  · refine BS_iload_n dX1_oddsOn_32 rfl ?_
    refine BS_goto (tgt := 37) dX1_oddsOn_33 (by decide) ?_
    exact bs_X1_oddsOn_b37
noncomputable def F_X1_oddsOn_b0 : KK OO :=
  op_ald 0 <| op_gfr [10] 3 <| op_gfr [17] 69 <| op_ild 4 <| op_ine (op_ild 3 <| F_X1_oddsOn_b17) (op_ild 2 <| F_X1_oddsOn_b17)
theorem bs_X1_oddsOn_b0 : B_S M_X1_oddsOn 0 (F_X1_oddsOn_b0) z_O k_O := by
  unfold F_X1_oddsOn_b0
  refine BS_aload_n dX1_oddsOn_0 rfl ?_
  refine BS_gfr f_X1_108 dX1_oddsOn_1 ?_
  refine BS_gfr f_X1_176 dX1_oddsOn_4 ?_
  refine BS_iload dX1_oddsOn_7 ?_
  refine BS_if_ne (tgt := 16) dX1_oddsOn_9 (by decide) ?_ ?_
  · refine BS_iload_n dX1_oddsOn_16 rfl ?_
    exact bs_X1_oddsOn_b17
  · refine BS_iload_n dX1_oddsOn_12 rfl ?_
    refine BS_goto (tgt := 17) dX1_oddsOn_13 (by decide) ?_
    exact bs_X1_oddsOn_b17
noncomputable def F_X1_oddsOn : FF := mk_F 7 F_X1_oddsOn_b0
theorem con_X1_oddsOn : Con_ yX1_oddsOn (ws_ yX1_oddsOn cX1_oddsOn 7 (some .long)) 7 159 F_X1_oddsOn := Con_of (by decide +kernel) bs_X1_oddsOn_b0
/-- LongerHalf.byLaw(IIII)J -/
abbrev M_X1_byLaw : MM := (yX1_byLaw, cX1_byLaw, (some .long), 8, 185, 9, [])
theorem pd_X1_byLaw : (yX1_byLaw.cls ≠ "java/lang/invoke/MethodHandle" ∧ yX1_byLaw.cls ≠ "java/lang/invoke/VarHandle") ∧ (parseMethodDescriptor yX1_byLaw.desc).map (fun d => d.parameters.length) = some 4 := ⟨⟨by decide +kernel, by decide +kernel⟩, by decide +kernel⟩
noncomputable def F_X1_byLaw_b150 : KK OO :=
  op_lld 5 <| op_lld 7 <| op_l2 (fun x y => x + y) <| op_lret
theorem bs_X1_byLaw_b150 : B_S M_X1_byLaw 150 (F_X1_byLaw_b150) z_O k_O := by
  unfold F_X1_byLaw_b150
  refine BS_lload dX1_byLaw_150 ?_
  refine BS_lload dX1_byLaw_152 ?_
  refine BS_ladd dX1_byLaw_154 ?_
  exact BS_lreturn dX1_byLaw_155 rfl
noncomputable def F_X1_byLaw_b48 : KK OO :=
  op_push (.long 2) <| op_lld 5 <| op_l2 (fun x y => x * y) <| op_lret
theorem bs_X1_byLaw_b48 : B_S M_X1_byLaw 48 (F_X1_byLaw_b48) z_O k_O := by
  unfold F_X1_byLaw_b48
  refine BS_ldc2 dX1_byLaw_48 q1378 ?_
  refine BS_lload dX1_byLaw_51 ?_
  refine BS_lmul dX1_byLaw_53 ?_
  exact BS_lreturn dX1_byLaw_54 rfl
noncomputable def F_X1_byLaw_b55 : KK OO :=
  op_push (.long 2) <| op_ald 0 <| op_gfr [10] 3 <| op_gfr [17] 69 <| op_ild 3 <| op_aald 6 <| op_ald 0 <| op_gfr [10] 3 <| op_gfr [17] 68 <| op_ild 2 <| op_aald 8 <| op_lld 5 <| op_lld 7 <| op_call 4 (f_or (f_kd 21 F_X15_chooses) (f_or (f_kd 22 F_X17_chooses) (f_or (f_kd 23 F_X15_chooses) (f_kd 24 F_X15_chooses)))) kx_no <| op_ine (op_lld 7 <| op_l2 (fun x y => x * y) <| op_lret) (op_lld 5 <| op_l2 (fun x y => x * y) <| op_lret)
theorem bs_X1_byLaw_b55 : B_S M_X1_byLaw 55 (F_X1_byLaw_b55) z_O k_O := by
  unfold F_X1_byLaw_b55
  refine BS_ldc2 dX1_byLaw_55 q1378 ?_
  refine BS_aload_n dX1_byLaw_58 rfl ?_
  refine BS_gfr f_X1_108 dX1_byLaw_59 ?_
  refine BS_gfr f_X1_176 dX1_byLaw_62 ?_
  refine BS_iload_n dX1_byLaw_65 rfl ?_
  refine BS_aaload dX1_byLaw_66 (by decide) (by decide) (C := "LongerHalf$Person") rfl ?_
  refine BS_aload_n dX1_byLaw_67 rfl ?_
  refine BS_gfr f_X1_108 dX1_byLaw_68 ?_
  refine BS_gfr f_X1_143 dX1_byLaw_71 ?_
  refine BS_iload_n dX1_byLaw_74 rfl ?_
  refine BS_aaload dX1_byLaw_75 (by decide) (by decide) (C := "LongerHalf$Bone") rfl ?_
  refine BS_lload dX1_byLaw_76 ?_
  refine BS_lload dX1_byLaw_78 ?_
  refine BS_call ((run_or (run_U dX1_byLaw_80 con_X15_chooses (ci := 11) rfl q1379 q1381 q1395 q1380 q158 q1396 (Or.inl ⟨_, _, _, q1380, q1396⟩) pu_Pe_chooses ⟨Nat.le_of_ble_eq_true rfl, Nat.le_of_ble_eq_true rfl⟩) (run_or (run_U dX1_byLaw_80 con_X17_chooses (ci := 12) rfl q1379 q1381 q1384 q1385 q160 q1386 (Or.inl ⟨_, _, _, q1380, q1396⟩) pu_Pe_chooses ⟨Nat.le_of_ble_eq_true rfl, Nat.le_of_ble_eq_true rfl⟩) (run_or (run_U dX1_byLaw_80 con_X15_chooses (ci := 13) rfl q1379 q1381 q1383 q1380 q158 q1396 (Or.inl ⟨_, _, _, q1380, q1396⟩) pu_Pe_chooses ⟨Nat.le_of_ble_eq_true rfl, Nat.le_of_ble_eq_true rfl⟩) (run_U dX1_byLaw_80 con_X15_chooses (ci := 14) rfl q1379 q1381 q1382 q1380 q158 q1396 (Or.inl ⟨_, _, _, q1380, q1396⟩) pu_Pe_chooses ⟨Nat.le_of_ble_eq_true rfl, Nat.le_of_ble_eq_true rfl⟩))))) BV_no ?_
  refine BS_if_ne (tgt := 91) dX1_byLaw_83 (by decide) ?_ ?_
  · refine BS_lload dX1_byLaw_91 ?_
    refine BS_lmul dX1_byLaw_93 ?_
    exact BS_lreturn dX1_byLaw_94 rfl
  · refine BS_lload dX1_byLaw_86 ?_
    refine BS_goto (tgt := 93) dX1_byLaw_88 (by decide) ?_
    refine BS_lmul dX1_byLaw_93 ?_
    exact BS_lreturn dX1_byLaw_94 rfl
noncomputable def F_X1_byLaw_b95 : KK OO :=
  op_push (.long 2) <| op_ald 0 <| op_gfr [10] 3 <| op_gfr [17] 69 <| op_ild 4 <| op_aald 6 <| op_ald 0 <| op_gfr [10] 3 <| op_gfr [17] 68 <| op_ild 2 <| op_aald 8 <| op_ald 0 <| op_ild 2 <| op_ild 4 <| op_ild 3 <| op_push (.int 0) <| op_call 5 (f_kd 10 F_X1_oddsOn) kx_no <| op_ald 0 <| op_ild 2 <| op_ild 4 <| op_ild 3 <| op_push (.int 1) <| op_call 5 (f_kd 10 F_X1_oddsOn) kx_no <| op_call 4 (f_or (f_kd 21 F_X15_chooses) (f_or (f_kd 22 F_X17_chooses) (f_or (f_kd 23 F_X15_chooses) (f_kd 24 F_X15_chooses)))) kx_no <| op_ine (op_lld 5 <| op_l2 (fun x y => x * y) <| op_lret) (op_lld 7 <| op_l2 (fun x y => x * y) <| op_lret)
theorem bs_X1_byLaw_b95 : B_S M_X1_byLaw 95 (F_X1_byLaw_b95) z_O k_O := by
  unfold F_X1_byLaw_b95
  refine BS_ldc2 dX1_byLaw_95 q1378 ?_
  refine BS_aload_n dX1_byLaw_98 rfl ?_
  refine BS_gfr f_X1_108 dX1_byLaw_99 ?_
  refine BS_gfr f_X1_176 dX1_byLaw_102 ?_
  refine BS_iload dX1_byLaw_105 ?_
  refine BS_aaload dX1_byLaw_107 (by decide) (by decide) (C := "LongerHalf$Person") rfl ?_
  refine BS_aload_n dX1_byLaw_108 rfl ?_
  refine BS_gfr f_X1_108 dX1_byLaw_109 ?_
  refine BS_gfr f_X1_143 dX1_byLaw_112 ?_
  refine BS_iload_n dX1_byLaw_115 rfl ?_
  refine BS_aaload dX1_byLaw_116 (by decide) (by decide) (C := "LongerHalf$Bone") rfl ?_
  refine BS_aload_n dX1_byLaw_117 rfl ?_
  refine BS_iload_n dX1_byLaw_118 rfl ?_
  refine BS_iload dX1_byLaw_119 ?_
  refine BS_iload_n dX1_byLaw_121 rfl ?_
  refine BS_iconst dX1_byLaw_122 (by decide) ?_
  refine BS_call (run_V dX1_byLaw_123 con_X1_oddsOn (ci := 0) rfl rfl q1374 q1376 qs45 q136 q1377 pd_X1_oddsOn ⟨Nat.le_of_ble_eq_true rfl, Nat.le_of_ble_eq_true rfl⟩) BV_no ?_
  refine BS_aload_n dX1_byLaw_126 rfl ?_
  refine BS_iload_n dX1_byLaw_127 rfl ?_
  refine BS_iload dX1_byLaw_128 ?_
  refine BS_iload_n dX1_byLaw_130 rfl ?_
  refine BS_iconst dX1_byLaw_131 (by decide) ?_
  refine BS_call (run_V dX1_byLaw_132 con_X1_oddsOn (ci := 0) rfl rfl q1374 q1376 qs45 q136 q1377 pd_X1_oddsOn ⟨Nat.le_of_ble_eq_true rfl, Nat.le_of_ble_eq_true rfl⟩) BV_no ?_
  refine BS_call ((run_or (run_U dX1_byLaw_135 con_X15_chooses (ci := 11) rfl q1379 q1381 q1395 q1380 q158 q1396 (Or.inl ⟨_, _, _, q1380, q1396⟩) pu_Pe_chooses ⟨Nat.le_of_ble_eq_true rfl, Nat.le_of_ble_eq_true rfl⟩) (run_or (run_U dX1_byLaw_135 con_X17_chooses (ci := 12) rfl q1379 q1381 q1384 q1385 q160 q1386 (Or.inl ⟨_, _, _, q1380, q1396⟩) pu_Pe_chooses ⟨Nat.le_of_ble_eq_true rfl, Nat.le_of_ble_eq_true rfl⟩) (run_or (run_U dX1_byLaw_135 con_X15_chooses (ci := 13) rfl q1379 q1381 q1383 q1380 q158 q1396 (Or.inl ⟨_, _, _, q1380, q1396⟩) pu_Pe_chooses ⟨Nat.le_of_ble_eq_true rfl, Nat.le_of_ble_eq_true rfl⟩) (run_U dX1_byLaw_135 con_X15_chooses (ci := 14) rfl q1379 q1381 q1382 q1380 q158 q1396 (Or.inl ⟨_, _, _, q1380, q1396⟩) pu_Pe_chooses ⟨Nat.le_of_ble_eq_true rfl, Nat.le_of_ble_eq_true rfl⟩))))) BV_no ?_
  refine BS_if_ne (tgt := 146) dX1_byLaw_138 (by decide) ?_ ?_
  · refine BS_lload dX1_byLaw_146 ?_
    refine BS_lmul dX1_byLaw_148 ?_
    exact BS_lreturn dX1_byLaw_149 rfl
  · refine BS_lload dX1_byLaw_141 ?_
    refine BS_goto (tgt := 148) dX1_byLaw_143 (by decide) ?_
    refine BS_lmul dX1_byLaw_148 ?_
    exact BS_lreturn dX1_byLaw_149 rfl
noncomputable def F_X1_byLaw_b0 : KK OO :=
  op_ald 0 <| op_ild 2 <| op_ild 3 <| op_ild 4 <| op_push (.int 0) <| op_call 5 (f_kd 10 F_X1_oddsOn) kx_no <| op_lst 5 <| op_ald 0 <| op_ild 2 <| op_ild 3 <| op_ild 4 <| op_push (.int 1) <| op_call 5 (f_kd 10 F_X1_oddsOn) kx_no <| op_lst 7 <| op_ild 1 <| op_sw [((0), F_X1_byLaw_b48), ((1), F_X1_byLaw_b55), ((2), F_X1_byLaw_b95)] (F_X1_byLaw_b150)
theorem bs_X1_byLaw_b0 : B_S M_X1_byLaw 0 (F_X1_byLaw_b0) z_O k_O := by
  unfold F_X1_byLaw_b0
  refine BS_aload_n dX1_byLaw_0 rfl ?_
  refine BS_iload_n dX1_byLaw_1 rfl ?_
  refine BS_iload_n dX1_byLaw_2 rfl ?_
  refine BS_iload dX1_byLaw_3 ?_
  refine BS_iconst dX1_byLaw_5 (by decide) ?_
  refine BS_call (run_V dX1_byLaw_6 con_X1_oddsOn (ci := 0) rfl rfl q1374 q1376 qs45 q136 q1377 pd_X1_oddsOn ⟨Nat.le_of_ble_eq_true rfl, Nat.le_of_ble_eq_true rfl⟩) BV_no ?_
  refine BS_lstore dX1_byLaw_9 (Nat.le_of_ble_eq_true rfl) ?_
  refine BS_aload_n dX1_byLaw_11 rfl ?_
  refine BS_iload_n dX1_byLaw_12 rfl ?_
  refine BS_iload_n dX1_byLaw_13 rfl ?_
  refine BS_iload dX1_byLaw_14 ?_
  refine BS_iconst dX1_byLaw_16 (by decide) ?_
  refine BS_call (run_V dX1_byLaw_17 con_X1_oddsOn (ci := 0) rfl rfl q1374 q1376 qs45 q136 q1377 pd_X1_oddsOn ⟨Nat.le_of_ble_eq_true rfl, Nat.le_of_ble_eq_true rfl⟩) BV_no ?_
  refine BS_lstore dX1_byLaw_20 (Nat.le_of_ble_eq_true rfl) ?_
  refine BS_iload_n dX1_byLaw_22 rfl ?_
  refine BS_tsw dX1_byLaw_23 (by decide) (td := 150) (by decide) ?_ ?_
  · exact bs_X1_byLaw_b150
  · exact ⟨by decide, ⟨48, by decide, by
        exact bs_X1_byLaw_b48⟩, ⟨by decide, ⟨55, by decide, by
        exact bs_X1_byLaw_b55⟩, ⟨by decide, ⟨95, by decide, by
        exact bs_X1_byLaw_b95⟩, trivial⟩⟩⟩
noncomputable def F_X1_byLaw : FF := mk_F 9 F_X1_byLaw_b0
theorem con_X1_byLaw : Con_ yX1_byLaw (ws_ yX1_byLaw cX1_byLaw 9 (some .long)) 8 185 F_X1_byLaw := Con_of (by decide +kernel) bs_X1_byLaw_b0
/-- LongerHalf.lawOdds(IIIIZ)J -/
abbrev M_X1_lawOdds : MM := (yX1_lawOdds, cX1_lawOdds, (some .long), 202, 4647, 6, [])
theorem pd_X1_lawOdds : (yX1_lawOdds.cls ≠ "java/lang/invoke/MethodHandle" ∧ yX1_lawOdds.cls ≠ "java/lang/invoke/VarHandle") ∧ (parseMethodDescriptor yX1_lawOdds.desc).map (fun d => d.parameters.length) = some 5 := ⟨⟨by decide +kernel, by decide +kernel⟩, by decide +kernel⟩
noncomputable def F_X1_lawOdds_b31 : KK OO :=
  op_ald 0 <| op_push (.int 1) <| op_call 2 (f_kd 10 F_X1_no) kx_no <| op_i2l <| op_lret
theorem bs_X1_lawOdds_b31 : B_S M_X1_lawOdds 31 (F_X1_lawOdds_b31) z_O k_O := by
  unfold F_X1_lawOdds_b31
  refine BS_aload_n dX1_lawOdds_31 rfl ?_
  refine BS_iconst dX1_lawOdds_32 (by decide) ?_
  refine BS_call (run_V dX1_lawOdds_33 con_X1_no (ci := 0) rfl rfl q502 q504 qs3 q136 q505 pd_X1_no ⟨Nat.le_of_ble_eq_true rfl, Nat.le_of_ble_eq_true rfl⟩) BV_no ?_
  refine BS_i2l dX1_lawOdds_36 ?_
  exact BS_lreturn dX1_lawOdds_37 rfl
noncomputable def F_X1_lawOdds_b0 : KK OO :=
  op_ald 0 <| op_call 1 (f_kd 10 F_X1_anew) kx_no <| op_ild 1 <| op_push (.int 0) <| op_push (.int 3) <| op_call 3 F_X1_in kx_no <| op_ieq (F_X1_lawOdds_b31) (op_ald 0 <| op_ild 2 <| op_call 2 (f_kd 10 F_X1_isBone) kx_no <| op_ieq (F_X1_lawOdds_b31) (op_ald 0 <| op_ild 3 <| op_ild 4 <| op_call 3 (f_kd 10 F_X1_isPair) kx_no <| op_ine (op_ald 0 <| op_ild 1 <| op_ild 2 <| op_ild 3 <| op_ild 4 <| op_call 5 (f_kd 10 F_X1_byLaw) kx_no <| op_push (.long 2) <| op_ald 0 <| op_ild 2 <| op_call 2 (f_kd 10 F_X1_lay) kx_no <| op_call 1 (f_kd 14 F_X5_all) kx_no <| op_l2 (fun x y => x * y) <| op_ild 5 <| op_call 3 F_X1_lowest kx_no <| op_lret) (F_X1_lawOdds_b31)))
theorem bs_X1_lawOdds_b0 : B_S M_X1_lawOdds 0 (F_X1_lawOdds_b0) z_O k_O := by
  unfold F_X1_lawOdds_b0
  refine BS_aload_n dX1_lawOdds_0 rfl ?_
  refine BS_call (run_V dX1_lawOdds_1 con_X1_anew (ci := 0) rfl rfl q495 q497 qs2 q136 q498 pd_X1_anew ⟨Nat.le_of_ble_eq_true rfl, Nat.le_of_ble_eq_true rfl⟩) BV_no ?_
  refine BS_iload_n dX1_lawOdds_4 rfl ?_
  refine BS_iconst dX1_lawOdds_5 (by decide) ?_
  refine BS_iconst dX1_lawOdds_6 (by decide) ?_
  refine BS_call (run_S dX1_lawOdds_7 con_X1_in q499 q500 q136 q501 pd_X1_in ⟨Nat.le_of_ble_eq_true rfl, Nat.le_of_ble_eq_true rfl⟩) BV_no ?_
  refine BS_if_eq (tgt := 31) dX1_lawOdds_10 (by decide) ?_ ?_
  · exact bs_X1_lawOdds_b31
  · refine BS_aload_n dX1_lawOdds_13 rfl ?_
    refine BS_iload_n dX1_lawOdds_14 rfl ?_
    refine BS_call (run_V dX1_lawOdds_15 con_X1_isBone (ci := 0) rfl rfl q1089 q1091 qs29 q136 q1092 pd_X1_isBone ⟨Nat.le_of_ble_eq_true rfl, Nat.le_of_ble_eq_true rfl⟩) BV_no ?_
    refine BS_if_eq (tgt := 31) dX1_lawOdds_18 (by decide) ?_ ?_
    · exact bs_X1_lawOdds_b31
    · refine BS_aload_n dX1_lawOdds_21 rfl ?_
      refine BS_iload_n dX1_lawOdds_22 rfl ?_
      refine BS_iload dX1_lawOdds_23 ?_
      refine BS_call (run_V dX1_lawOdds_25 con_X1_isPair (ci := 0) rfl rfl q1184 q1186 qs35 q136 q1187 pd_X1_isPair ⟨Nat.le_of_ble_eq_true rfl, Nat.le_of_ble_eq_true rfl⟩) BV_no ?_
      refine BS_if_ne (tgt := 38) dX1_lawOdds_28 (by decide) ?_ ?_
      · refine BS_aload_n dX1_lawOdds_38 rfl ?_
        refine BS_iload_n dX1_lawOdds_39 rfl ?_
        refine BS_iload_n dX1_lawOdds_40 rfl ?_
        refine BS_iload_n dX1_lawOdds_41 rfl ?_
        refine BS_iload dX1_lawOdds_42 ?_
        refine BS_call (run_V dX1_lawOdds_44 con_X1_byLaw (ci := 0) rfl rfl q1370 q1372 qs44 q136 q1373 pd_X1_byLaw ⟨Nat.le_of_ble_eq_true rfl, Nat.le_of_ble_eq_true rfl⟩) BV_no ?_
        refine BS_ldc2 dX1_lawOdds_47 q1378 ?_
        refine BS_aload_n dX1_lawOdds_50 rfl ?_
        refine BS_iload_n dX1_lawOdds_51 rfl ?_
        refine BS_call (run_V dX1_lawOdds_52 con_X1_lay (ci := 0) rfl rfl q1149 q1151 qs32 q136 q1152 pd_X1_lay ⟨Nat.le_of_ble_eq_true rfl, Nat.le_of_ble_eq_true rfl⟩) BV_no ?_
        refine BS_call (run_V dX1_lawOdds_55 con_X5_all (ci := 4) rfl rfl q1269 q1270 q1271 q143 q1272 pd_X5_all ⟨Nat.le_of_ble_eq_true rfl, Nat.le_of_ble_eq_true rfl⟩) BV_no ?_
        refine BS_lmul dX1_lawOdds_58 ?_
        refine BS_iload dX1_lawOdds_59 ?_
        refine BS_call (run_S dX1_lawOdds_61 con_X1_lowest q1274 q1275 q136 q1276 pd_X1_lowest ⟨Nat.le_of_ble_eq_true rfl, Nat.le_of_ble_eq_true rfl⟩) BV_no ?_
        exact BS_lreturn dX1_lawOdds_64 rfl
      · exact bs_X1_lawOdds_b31
noncomputable def F_X1_lawOdds : FF := mk_F 6 F_X1_lawOdds_b0
theorem con_X1_lawOdds : Con_ yX1_lawOdds (ws_ yX1_lawOdds cX1_lawOdds 6 (some .long)) 202 4647 F_X1_lawOdds := Con_of (by decide +kernel) bs_X1_lawOdds_b0
/-- LongerHalf.fairest(III)I -/
abbrev M_X1_fairest : MM := (yX1_fairest, cX1_fairest, (some .int), 9, 213, 8, [])
theorem pd_X1_fairest : (yX1_fairest.cls ≠ "java/lang/invoke/MethodHandle" ∧ yX1_fairest.cls ≠ "java/lang/invoke/VarHandle") ∧ (parseMethodDescriptor yX1_fairest.desc).map (fun d => d.parameters.length) = some 3 := ⟨⟨by decide +kernel, by decide +kernel⟩, by decide +kernel⟩
noncomputable def F_X1_fairest_b21 : KK OO :=
  op_ald 0 <| op_push (.int 1) <| op_call 2 (f_kd 10 F_X1_no) kx_no <| op_iret .int
theorem bs_X1_fairest_b21 : B_S M_X1_fairest 21 (F_X1_fairest_b21) z_O k_O := by
  unfold F_X1_fairest_b21
  refine BS_aload_n dX1_fairest_21 rfl ?_
  refine BS_iconst dX1_fairest_22 (by decide) ?_
  refine BS_call (run_V dX1_fairest_23 con_X1_no (ci := 0) rfl rfl q502 q504 qs3 q136 q505 pd_X1_no ⟨Nat.le_of_ble_eq_true rfl, Nat.le_of_ble_eq_true rfl⟩) BV_no ?_
  exact BS_ireturn dX1_fairest_26 rfl
noncomputable def F_X1_fairest_l43 : KK (L_S ⊕ OO) :=
  op_ild 7 <| op_push (.int 4) <| op_cge (op_exit <| op_ild 4 <| op_iret .int) (op_ald 0 <| op_ild 7 <| op_ild 1 <| op_ild 2 <| op_ild 3 <| op_call 5 (f_kd 10 F_X1_byLaw) kx_no <| op_lld 5 <| op_l2 (fun x y => x - y) <| op_m1l (fun x => if 0 < x then x else -x) <| op_ald 0 <| op_ild 4 <| op_ild 1 <| op_ild 2 <| op_ild 3 <| op_call 5 (f_kd 10 F_X1_byLaw) kx_no <| op_lld 5 <| op_l2 (fun x y => x - y) <| op_m1l (fun x => if 0 < x then x else -x) <| op_lcmp <| op_ige (op_iinc 7 1 <| op_back) (op_ild 7 <| op_ist 4 <| op_iinc 7 1 <| op_back))
theorem bs_X1_fairest_l43 : B_S M_X1_fairest 43 (F_X1_fairest_l43) (z_L z_O) (k_L 43 k_O) := by
  unfold F_X1_fairest_l43
  refine BS_iload dX1_fairest_43 ?_
  refine BS_iconst dX1_fairest_45 (by decide) ?_
  refine BS_icmp_ge (tgt := 93) dX1_fairest_46 (by decide) ?_ ?_
  · refine BS_exit ?_
    refine BS_iload dX1_fairest_93 ?_
    exact BS_ireturn dX1_fairest_95 rfl
  · refine BS_aload_n dX1_fairest_49 rfl ?_
    refine BS_iload dX1_fairest_50 ?_
    refine BS_iload_n dX1_fairest_52 rfl ?_
    refine BS_iload_n dX1_fairest_53 rfl ?_
    refine BS_iload_n dX1_fairest_54 rfl ?_
    refine BS_call (run_V dX1_fairest_55 con_X1_byLaw (ci := 0) rfl rfl q1370 q1372 qs44 q136 q1373 pd_X1_byLaw ⟨Nat.le_of_ble_eq_true rfl, Nat.le_of_ble_eq_true rfl⟩) BV_no ?_
    refine BS_lload dX1_fairest_58 ?_
    refine BS_lsub dX1_fairest_60 ?_
    refine BS_labs dX1_fairest_61 q1401 (Nat.le_of_ble_eq_true rfl) (Nat.le_of_ble_eq_true rfl) ?_
    refine BS_aload_n dX1_fairest_64 rfl ?_
    refine BS_iload dX1_fairest_65 ?_
    refine BS_iload_n dX1_fairest_67 rfl ?_
    refine BS_iload_n dX1_fairest_68 rfl ?_
    refine BS_iload_n dX1_fairest_69 rfl ?_
    refine BS_call (run_V dX1_fairest_70 con_X1_byLaw (ci := 0) rfl rfl q1370 q1372 qs44 q136 q1373 pd_X1_byLaw ⟨Nat.le_of_ble_eq_true rfl, Nat.le_of_ble_eq_true rfl⟩) BV_no ?_
    refine BS_lload dX1_fairest_73 ?_
    refine BS_lsub dX1_fairest_75 ?_
    refine BS_labs dX1_fairest_76 q1401 (Nat.le_of_ble_eq_true rfl) (Nat.le_of_ble_eq_true rfl) ?_
    refine BS_lcmp dX1_fairest_79 ?_
    refine BS_if_ge (tgt := 87) dX1_fairest_80 (by decide) ?_ ?_
    · refine BS_iinc dX1_fairest_87 (by decide) (Nat.le_of_ble_eq_true rfl) ?_
      refine BS_goto (tgt := 43) dX1_fairest_90 (by decide) ?_
      exact BS_back
    · refine BS_iload dX1_fairest_83 ?_
      refine BS_istore dX1_fairest_85 (Nat.le_of_ble_eq_true rfl) ?_
      refine BS_iinc dX1_fairest_87 (by decide) (Nat.le_of_ble_eq_true rfl) ?_
      refine BS_goto (tgt := 43) dX1_fairest_90 (by decide) ?_
      exact BS_back
noncomputable def F_X1_fairest_b43 : KK OO := op_loop (F_X1_fairest_l43)
theorem bs_X1_fairest_b43 : B_S M_X1_fairest 43 (F_X1_fairest_b43) z_O k_O := BS_loop (bs_X1_fairest_l43)
noncomputable def F_X1_fairest_b0 : KK OO :=
  op_ald 0 <| op_call 1 (f_kd 10 F_X1_anew) kx_no <| op_ald 0 <| op_ild 1 <| op_call 2 (f_kd 10 F_X1_isBone) kx_no <| op_ieq (F_X1_fairest_b21) (op_ald 0 <| op_ild 2 <| op_ild 3 <| op_call 3 (f_kd 10 F_X1_isPair) kx_no <| op_ine (op_push (.int 0) <| op_ist 4 <| op_ald 0 <| op_ild 1 <| op_call 2 (f_kd 10 F_X1_lay) kx_no <| op_call 1 (f_kd 14 F_X5_all) kx_no <| op_lst 5 <| op_push (.int 1) <| op_ist 7 <| F_X1_fairest_b43) (F_X1_fairest_b21))
theorem bs_X1_fairest_b0 : B_S M_X1_fairest 0 (F_X1_fairest_b0) z_O k_O := by
  unfold F_X1_fairest_b0
  refine BS_aload_n dX1_fairest_0 rfl ?_
  refine BS_call (run_V dX1_fairest_1 con_X1_anew (ci := 0) rfl rfl q495 q497 qs2 q136 q498 pd_X1_anew ⟨Nat.le_of_ble_eq_true rfl, Nat.le_of_ble_eq_true rfl⟩) BV_no ?_
  refine BS_aload_n dX1_fairest_4 rfl ?_
  refine BS_iload_n dX1_fairest_5 rfl ?_
  refine BS_call (run_V dX1_fairest_6 con_X1_isBone (ci := 0) rfl rfl q1089 q1091 qs29 q136 q1092 pd_X1_isBone ⟨Nat.le_of_ble_eq_true rfl, Nat.le_of_ble_eq_true rfl⟩) BV_no ?_
  refine BS_if_eq (tgt := 21) dX1_fairest_9 (by decide) ?_ ?_
  · exact bs_X1_fairest_b21
  · refine BS_aload_n dX1_fairest_12 rfl ?_
    refine BS_iload_n dX1_fairest_13 rfl ?_
    refine BS_iload_n dX1_fairest_14 rfl ?_
    refine BS_call (run_V dX1_fairest_15 con_X1_isPair (ci := 0) rfl rfl q1184 q1186 qs35 q136 q1187 pd_X1_isPair ⟨Nat.le_of_ble_eq_true rfl, Nat.le_of_ble_eq_true rfl⟩) BV_no ?_
    refine BS_if_ne (tgt := 27) dX1_fairest_18 (by decide) ?_ ?_
    · refine BS_iconst dX1_fairest_27 (by decide) ?_
      refine BS_istore dX1_fairest_28 (Nat.le_of_ble_eq_true rfl) ?_
      refine BS_aload_n dX1_fairest_30 rfl ?_
      refine BS_iload_n dX1_fairest_31 rfl ?_
      refine BS_call (run_V dX1_fairest_32 con_X1_lay (ci := 0) rfl rfl q1149 q1151 qs32 q136 q1152 pd_X1_lay ⟨Nat.le_of_ble_eq_true rfl, Nat.le_of_ble_eq_true rfl⟩) BV_no ?_
      refine BS_call (run_V dX1_fairest_35 con_X5_all (ci := 4) rfl rfl q1269 q1270 q1271 q143 q1272 pd_X5_all ⟨Nat.le_of_ble_eq_true rfl, Nat.le_of_ble_eq_true rfl⟩) BV_no ?_
      refine BS_lstore dX1_fairest_38 (Nat.le_of_ble_eq_true rfl) ?_
      refine BS_iconst dX1_fairest_40 (by decide) ?_
      refine BS_istore dX1_fairest_41 (Nat.le_of_ble_eq_true rfl) ?_
      exact bs_X1_fairest_b43
    · exact bs_X1_fairest_b21
noncomputable def F_X1_fairest : FF := mk_F 8 F_X1_fairest_b0
theorem con_X1_fairest : Con_ yX1_fairest (ws_ yX1_fairest cX1_fairest 8 (some .int)) 9 213 F_X1_fairest := Con_of (by decide +kernel) bs_X1_fairest_b0
/-- LongerHalf.weekWhy(I)I -/
abbrev M_X1_weekWhy : MM := (yX1_weekWhy, cX1_weekWhy, (some .int), 1, 22, 2, [])
theorem pd_X1_weekWhy : (yX1_weekWhy.cls ≠ "java/lang/invoke/MethodHandle" ∧ yX1_weekWhy.cls ≠ "java/lang/invoke/VarHandle") ∧ (parseMethodDescriptor yX1_weekWhy.desc).map (fun d => d.parameters.length) = some 1 := ⟨⟨by decide +kernel, by decide +kernel⟩, by decide +kernel⟩
noncomputable def F_X1_weekWhy_b0 : KK OO :=
  op_ald 0 <| op_gfr [10] 3 <| op_ifnn (op_ild 1 <| op_push (.int 1) <| op_push (.int 9) <| op_call 3 F_X1_in kx_no <| op_ieq (op_push (.int 2) <| op_iret .int) (op_push (.int 0) <| op_iret .int)) (op_push (.int 1) <| op_iret .int)
theorem bs_X1_weekWhy_b0 : B_S M_X1_weekWhy 0 (F_X1_weekWhy_b0) z_O k_O := by
  unfold F_X1_weekWhy_b0
  refine BS_aload_n dX1_weekWhy_0 rfl ?_
  refine BS_gfr f_X1_108 dX1_weekWhy_1 ?_
  refine BS_ifnonnull (tgt := 11) dX1_weekWhy_4 (by decide) ?_ ?_
  · refine BS_iload_n dX1_weekWhy_11 rfl ?_
    refine BS_iconst dX1_weekWhy_12 (by decide) ?_
    refine BS_bipush dX1_weekWhy_13 (by decide) ?_
    refine BS_call (run_S dX1_weekWhy_15 con_X1_in q499 q500 q136 q501 pd_X1_in ⟨Nat.le_of_ble_eq_true rfl, Nat.le_of_ble_eq_true rfl⟩) BV_no ?_
    refine BS_if_eq (tgt := 25) dX1_weekWhy_18 (by decide) ?_ ?_
    · refine BS_iconst dX1_weekWhy_25 (by decide) ?_
      exact BS_ireturn dX1_weekWhy_26 rfl
    · refine BS_iconst dX1_weekWhy_21 (by decide) ?_
      refine BS_goto (tgt := 26) dX1_weekWhy_22 (by decide) ?_
      exact BS_ireturn dX1_weekWhy_26 rfl
  · refine BS_iconst dX1_weekWhy_7 (by decide) ?_
    refine BS_goto (tgt := 26) dX1_weekWhy_8 (by decide) ?_
    exact BS_ireturn dX1_weekWhy_26 rfl
noncomputable def F_X1_weekWhy : FF := mk_F 2 F_X1_weekWhy_b0
theorem con_X1_weekWhy : Con_ yX1_weekWhy (ws_ yX1_weekWhy cX1_weekWhy 2 (some .int)) 1 22 F_X1_weekWhy := Con_of (by decide +kernel) bs_X1_weekWhy_b0
/-- LongerHalf.turnsOf(I)I -/
abbrev M_X1_turnsOf : MM := (yX1_turnsOf, cX1_turnsOf, (some .int), 15, 344, 3, [])
theorem pd_X1_turnsOf : (yX1_turnsOf.cls ≠ "java/lang/invoke/MethodHandle" ∧ yX1_turnsOf.cls ≠ "java/lang/invoke/VarHandle") ∧ (parseMethodDescriptor yX1_turnsOf.desc).map (fun d => d.parameters.length) = some 1 := ⟨⟨by decide +kernel, by decide +kernel⟩, by decide +kernel⟩
noncomputable def F_X1_turnsOf_b0 : KK OO :=
  op_ald 0 <| op_call 1 (f_kd 10 F_X1_anew) kx_no <| op_ald 0 <| op_ild 1 <| op_call 2 (f_kd 10 F_X1_weekWhy) kx_no <| op_ist 2 <| op_ild 2 <| op_ieq (op_ald 0 <| op_gfr [10] 14 <| op_ald 0 <| op_gfr [10] 3 <| op_gfi [17] 78 <| op_ild 1 <| op_call 3 (f_kd 16 F_X7_find) kx_no <| op_ieq (op_push (.int 0) <| op_iret .int) (op_push (.int 1) <| op_iret .int)) (op_ald 0 <| op_ild 2 <| op_call 2 (f_kd 10 F_X1_no) kx_no <| op_iret .int)
theorem bs_X1_turnsOf_b0 : B_S M_X1_turnsOf 0 (F_X1_turnsOf_b0) z_O k_O := by
  unfold F_X1_turnsOf_b0
  refine BS_aload_n dX1_turnsOf_0 rfl ?_
  refine BS_call (run_V dX1_turnsOf_1 con_X1_anew (ci := 0) rfl rfl q495 q497 qs2 q136 q498 pd_X1_anew ⟨Nat.le_of_ble_eq_true rfl, Nat.le_of_ble_eq_true rfl⟩) BV_no ?_
  refine BS_aload_n dX1_turnsOf_4 rfl ?_
  refine BS_iload_n dX1_turnsOf_5 rfl ?_
  refine BS_call (run_V dX1_turnsOf_6 con_X1_weekWhy (ci := 0) rfl rfl q1408 q1410 qs46 q136 q1411 pd_X1_weekWhy ⟨Nat.le_of_ble_eq_true rfl, Nat.le_of_ble_eq_true rfl⟩) BV_no ?_
  refine BS_istore_n dX1_turnsOf_9 rfl (Nat.le_of_ble_eq_true rfl) ?_
  refine BS_iload_n dX1_turnsOf_10 rfl ?_
  refine BS_if_eq (tgt := 22) dX1_turnsOf_11 (by decide) ?_ ?_
  · refine BS_aload_n dX1_turnsOf_22 rfl ?_
    refine BS_gfr f_X1_62 dX1_turnsOf_23 ?_
    refine BS_aload_n dX1_turnsOf_26 rfl ?_
    refine BS_gfr f_X1_108 dX1_turnsOf_27 ?_
    refine BS_gfi f_X1_133 dX1_turnsOf_30 ?_
    refine BS_iload_n dX1_turnsOf_33 rfl ?_
    refine BS_call (run_V dX1_turnsOf_34 con_X7_find (ci := 6) rfl rfl q1412 q1413 q1414 q145 q1415 pd_X7_find ⟨Nat.le_of_ble_eq_true rfl, Nat.le_of_ble_eq_true rfl⟩) BV_no ?_
    refine BS_if_eq (tgt := 44) dX1_turnsOf_37 (by decide) ?_ ?_
    · refine BS_iconst dX1_turnsOf_44 (by decide) ?_
      exact BS_ireturn dX1_turnsOf_45 rfl
    · refine BS_iconst dX1_turnsOf_40 (by decide) ?_
      refine BS_goto (tgt := 45) dX1_turnsOf_41 (by decide) ?_
      exact BS_ireturn dX1_turnsOf_45 rfl
  · refine BS_aload_n dX1_turnsOf_14 rfl ?_
    refine BS_iload_n dX1_turnsOf_15 rfl ?_
    refine BS_call (run_V dX1_turnsOf_16 con_X1_no (ci := 0) rfl rfl q502 q504 qs3 q136 q505 pd_X1_no ⟨Nat.le_of_ble_eq_true rfl, Nat.le_of_ble_eq_true rfl⟩) BV_no ?_
    refine BS_goto (tgt := 45) dX1_turnsOf_19 (by decide) ?_
    exact BS_ireturn dX1_turnsOf_45 rfl
noncomputable def F_X1_turnsOf : FF := mk_F 3 F_X1_turnsOf_b0
theorem con_X1_turnsOf : Con_ yX1_turnsOf (ws_ yX1_turnsOf cX1_turnsOf 3 (some .int)) 15 344 F_X1_turnsOf := Con_of (by decide +kernel) bs_X1_turnsOf_b0
/-- LongerHalf.turnAt(II)I -/
abbrev M_X1_turnAt : MM := (yX1_turnAt, cX1_turnAt, (some .int), 15, 344, 4, [])
theorem pd_X1_turnAt : (yX1_turnAt.cls ≠ "java/lang/invoke/MethodHandle" ∧ yX1_turnAt.cls ≠ "java/lang/invoke/VarHandle") ∧ (parseMethodDescriptor yX1_turnAt.desc).map (fun d => d.parameters.length) = some 2 := ⟨⟨by decide +kernel, by decide +kernel⟩, by decide +kernel⟩
noncomputable def F_X1_turnAt_b0 : KK OO :=
  op_ald 0 <| op_call 1 (f_kd 10 F_X1_anew) kx_no <| op_ald 0 <| op_ild 1 <| op_call 2 (f_kd 10 F_X1_weekWhy) kx_no <| op_ist 3 <| op_ild 3 <| op_ieq (op_ild 2 <| op_push (.int 0) <| op_ild 1 <| op_push (.int 1) <| op_i2 (fun x y => x - y) <| op_call 3 F_X1_in kx_no <| op_ine (op_ald 0 <| op_gfr [10] 14 <| op_ald 0 <| op_gfr [10] 3 <| op_gfi [17] 78 <| op_ild 1 <| op_call 3 (f_kd 16 F_X7_find) kx_no <| op_ieq (op_ald 0 <| op_push (.int 6) <| op_call 2 (f_kd 10 F_X1_no) kx_no <| op_iret .int) (op_ald 0 <| op_gfr [10] 14 <| op_ild 2 <| op_call 2 (f_kd 16 F_X7_at) kx_no <| op_iret .int)) (op_ald 0 <| op_push (.int 1) <| op_call 2 (f_kd 10 F_X1_no) kx_no <| op_iret .int)) (op_ald 0 <| op_ild 3 <| op_call 2 (f_kd 10 F_X1_no) kx_no <| op_iret .int)
theorem bs_X1_turnAt_b0 : B_S M_X1_turnAt 0 (F_X1_turnAt_b0) z_O k_O := by
  unfold F_X1_turnAt_b0
  refine BS_aload_n dX1_turnAt_0 rfl ?_
  refine BS_call (run_V dX1_turnAt_1 con_X1_anew (ci := 0) rfl rfl q495 q497 qs2 q136 q498 pd_X1_anew ⟨Nat.le_of_ble_eq_true rfl, Nat.le_of_ble_eq_true rfl⟩) BV_no ?_
  refine BS_aload_n dX1_turnAt_4 rfl ?_
  refine BS_iload_n dX1_turnAt_5 rfl ?_
  refine BS_call (run_V dX1_turnAt_6 con_X1_weekWhy (ci := 0) rfl rfl q1408 q1410 qs46 q136 q1411 pd_X1_weekWhy ⟨Nat.le_of_ble_eq_true rfl, Nat.le_of_ble_eq_true rfl⟩) BV_no ?_
  refine BS_istore_n dX1_turnAt_9 rfl (Nat.le_of_ble_eq_true rfl) ?_
  refine BS_iload_n dX1_turnAt_10 rfl ?_
  refine BS_if_eq (tgt := 20) dX1_turnAt_11 (by decide) ?_ ?_
  · refine BS_iload_n dX1_turnAt_20 rfl ?_
    refine BS_iconst dX1_turnAt_21 (by decide) ?_
    refine BS_iload_n dX1_turnAt_22 rfl ?_
    refine BS_iconst dX1_turnAt_23 (by decide) ?_
    refine BS_isub dX1_turnAt_24 ?_
    refine BS_call (run_S dX1_turnAt_25 con_X1_in q499 q500 q136 q501 pd_X1_in ⟨Nat.le_of_ble_eq_true rfl, Nat.le_of_ble_eq_true rfl⟩) BV_no ?_
    refine BS_if_ne (tgt := 37) dX1_turnAt_28 (by decide) ?_ ?_
    · refine BS_aload_n dX1_turnAt_37 rfl ?_
      refine BS_gfr f_X1_62 dX1_turnAt_38 ?_
      refine BS_aload_n dX1_turnAt_41 rfl ?_
      refine BS_gfr f_X1_108 dX1_turnAt_42 ?_
      refine BS_gfi f_X1_133 dX1_turnAt_45 ?_
      refine BS_iload_n dX1_turnAt_48 rfl ?_
      refine BS_call (run_V dX1_turnAt_49 con_X7_find (ci := 6) rfl rfl q1412 q1413 q1414 q145 q1415 pd_X7_find ⟨Nat.le_of_ble_eq_true rfl, Nat.le_of_ble_eq_true rfl⟩) BV_no ?_
      refine BS_if_eq (tgt := 66) dX1_turnAt_52 (by decide) ?_ ?_
      · refine BS_aload_n dX1_turnAt_66 rfl ?_
        refine BS_bipush dX1_turnAt_67 (by decide) ?_
        refine BS_call (run_V dX1_turnAt_69 con_X1_no (ci := 0) rfl rfl q502 q504 qs3 q136 q505 pd_X1_no ⟨Nat.le_of_ble_eq_true rfl, Nat.le_of_ble_eq_true rfl⟩) BV_no ?_
        exact BS_ireturn dX1_turnAt_72 rfl
      · refine BS_aload_n dX1_turnAt_55 rfl ?_
        refine BS_gfr f_X1_62 dX1_turnAt_56 ?_
        refine BS_iload_n dX1_turnAt_59 rfl ?_
        refine BS_call (run_V dX1_turnAt_60 con_X7_at (ci := 6) rfl rfl q1432 q1433 q1434 q145 q1435 pd_X7_at ⟨Nat.le_of_ble_eq_true rfl, Nat.le_of_ble_eq_true rfl⟩) BV_no ?_
        refine BS_goto (tgt := 72) dX1_turnAt_63 (by decide) ?_
        exact BS_ireturn dX1_turnAt_72 rfl
    · refine BS_aload_n dX1_turnAt_31 rfl ?_
      refine BS_iconst dX1_turnAt_32 (by decide) ?_
      refine BS_call (run_V dX1_turnAt_33 con_X1_no (ci := 0) rfl rfl q502 q504 qs3 q136 q505 pd_X1_no ⟨Nat.le_of_ble_eq_true rfl, Nat.le_of_ble_eq_true rfl⟩) BV_no ?_
      exact BS_ireturn dX1_turnAt_36 rfl
  · refine BS_aload_n dX1_turnAt_14 rfl ?_
    refine BS_iload_n dX1_turnAt_15 rfl ?_
    refine BS_call (run_V dX1_turnAt_16 con_X1_no (ci := 0) rfl rfl q502 q504 qs3 q136 q505 pd_X1_no ⟨Nat.le_of_ble_eq_true rfl, Nat.le_of_ble_eq_true rfl⟩) BV_no ?_
    exact BS_ireturn dX1_turnAt_19 rfl
noncomputable def F_X1_turnAt : FF := mk_F 4 F_X1_turnAt_b0
theorem con_X1_turnAt : Con_ yX1_turnAt (ws_ yX1_turnAt cX1_turnAt 4 (some .int)) 15 344 F_X1_turnAt := Con_of (by decide +kernel) bs_X1_turnAt_b0
/-- LongerHalf.tail(II)J -/
abbrev M_X1_tail : MM := (yX1_tail, cX1_tail, (some .long), 0, 0, 7, [])
theorem pd_X1_tail : (yX1_tail.cls ≠ "java/lang/invoke/MethodHandle" ∧ yX1_tail.cls ≠ "java/lang/invoke/VarHandle") ∧ (parseMethodDescriptor yX1_tail.desc).map (fun d => d.parameters.length) = some 2 := ⟨⟨by decide +kernel, by decide +kernel⟩, by decide +kernel⟩
noncomputable def F_X1_tail_b27 : KK (L_S ⊕ OO) :=
  op_l2 (fun x y => x + y) <| op_lst 2 <| op_lld 4 <| op_ild 0 <| op_ild 6 <| op_i2 (fun x y => x - y) <| op_i2l <| op_l2 (fun x y => x * y) <| op_ild 6 <| op_push (.int 1) <| op_i2 (fun x y => x + y) <| op_i2l <| op_l2d (fun x y => x / y) <| op_lst 4 <| op_iinc 6 1 <| op_back
theorem bs_X1_tail_b27 : B_S M_X1_tail 27 (F_X1_tail_b27) (z_L z_O) (k_L 8 k_O) := by
  unfold F_X1_tail_b27
  refine BS_ladd dX1_tail_27 ?_
  refine BS_lstore_n dX1_tail_28 rfl (Nat.le_of_ble_eq_true rfl) ?_
  refine BS_lload dX1_tail_29 ?_
  refine BS_iload_n dX1_tail_31 rfl ?_
  refine BS_iload dX1_tail_32 ?_
  refine BS_isub dX1_tail_34 ?_
  refine BS_i2l dX1_tail_35 ?_
  refine BS_lmul dX1_tail_36 ?_
  refine BS_iload dX1_tail_37 ?_
  refine BS_iconst dX1_tail_39 (by decide) ?_
  refine BS_iadd dX1_tail_40 ?_
  refine BS_i2l dX1_tail_41 ?_
  refine BS_ldiv dX1_tail_42 ?_
  refine BS_lstore dX1_tail_43 (Nat.le_of_ble_eq_true rfl) ?_
  refine BS_iinc dX1_tail_45 (by decide) (Nat.le_of_ble_eq_true rfl) ?_
  refine BS_goto (tgt := 8) dX1_tail_48 (by decide) ?_
  exact BS_back
noncomputable def F_X1_tail_l8 : KK (L_S ⊕ OO) :=
  op_ild 6 <| op_ild 0 <| op_cgt (op_exit <| op_lld 2 <| op_lret) (op_lld 2 <| op_ild 6 <| op_ild 1 <| op_clt (op_push (.long 0) <| F_X1_tail_b27) (op_lld 4 <| F_X1_tail_b27))
theorem bs_X1_tail_l8 : B_S M_X1_tail 8 (F_X1_tail_l8) (z_L z_O) (k_L 8 k_O) := by
  unfold F_X1_tail_l8
  refine BS_iload dX1_tail_8 ?_
  refine BS_iload_n dX1_tail_10 rfl ?_
  refine BS_icmp_gt (tgt := 51) dX1_tail_11 (by decide) ?_ ?_
  · refine BS_exit ?_
    refine BS_lload_n dX1_tail_51 rfl ?_
    exact BS_lreturn dX1_tail_52 rfl
  · refine BS_lload_n dX1_tail_14 rfl ?_
    refine BS_iload dX1_tail_15 ?_
    refine BS_iload_n dX1_tail_17 rfl ?_
    refine BS_icmp_lt (tgt := 26) dX1_tail_18 (by decide) ?_ ?_
    · refine BS_lconst dX1_tail_26 (by decide) ?_
      exact bs_X1_tail_b27
    · refine BS_lload dX1_tail_21 ?_
      refine BS_goto (tgt := 27) dX1_tail_23 (by decide) ?_
      exact bs_X1_tail_b27
noncomputable def F_X1_tail_b8 : KK OO := op_loop (F_X1_tail_l8)
theorem bs_X1_tail_b8 : B_S M_X1_tail 8 (F_X1_tail_b8) z_O k_O := BS_loop (bs_X1_tail_l8)
noncomputable def F_X1_tail_b0 : KK OO :=
  op_push (.long 0) <| op_lst 2 <| op_push (.long 1) <| op_lst 4 <| op_push (.int 0) <| op_ist 6 <| F_X1_tail_b8
theorem bs_X1_tail_b0 : B_S M_X1_tail 0 (F_X1_tail_b0) z_O k_O := by
  unfold F_X1_tail_b0
  refine BS_lconst dX1_tail_0 (by decide) ?_
  refine BS_lstore_n dX1_tail_1 rfl (Nat.le_of_ble_eq_true rfl) ?_
  refine BS_lconst dX1_tail_2 (by decide) ?_
  refine BS_lstore dX1_tail_3 (Nat.le_of_ble_eq_true rfl) ?_
  refine BS_iconst dX1_tail_5 (by decide) ?_
  refine BS_istore dX1_tail_6 (Nat.le_of_ble_eq_true rfl) ?_
  exact bs_X1_tail_b8
noncomputable def F_X1_tail : FF := mk_F 7 F_X1_tail_b0
theorem con_X1_tail : Con_ yX1_tail (ws_ yX1_tail cX1_tail 7 (some .long)) 0 0 F_X1_tail := Con_of (by decide +kernel) bs_X1_tail_b0
/-- LongerHalf.hand(IZ)J -/
abbrev M_X1_hand : MM := (yX1_hand, cX1_hand, (some .long), 202, 4647, 4, [])
theorem pd_X1_hand : (yX1_hand.cls ≠ "java/lang/invoke/MethodHandle" ∧ yX1_hand.cls ≠ "java/lang/invoke/VarHandle") ∧ (parseMethodDescriptor yX1_hand.desc).map (fun d => d.parameters.length) = some 2 := ⟨⟨by decide +kernel, by decide +kernel⟩, by decide +kernel⟩
noncomputable def F_X1_hand_b0 : KK OO :=
  op_ald 0 <| op_call 1 (f_kd 10 F_X1_anew) kx_no <| op_ald 0 <| op_ild 1 <| op_call 2 (f_kd 10 F_X1_isPerson) kx_no <| op_ine (op_ald 0 <| op_gfr [10] 3 <| op_gfr [17] 69 <| op_ild 1 <| op_aald 6 <| op_ast 3 <| op_ald 3 <| op_gfi [21, 22, 23, 24] 92 <| op_ald 3 <| op_gfi [21, 22, 23, 24] 93 <| op_call 2 F_X1_tail kx_no <| op_push (.long 1) <| op_ald 3 <| op_gfi [21, 22, 23, 24] 92 <| op_li (fun x y => x <<< (y.toInt64 &&& 63)) <| op_ild 2 <| op_call 3 F_X1_lowest kx_no <| op_lret) (op_ald 0 <| op_push (.int 1) <| op_call 2 (f_kd 10 F_X1_no) kx_no <| op_i2l <| op_lret)
theorem bs_X1_hand_b0 : B_S M_X1_hand 0 (F_X1_hand_b0) z_O k_O := by
  unfold F_X1_hand_b0
  refine BS_aload_n dX1_hand_0 rfl ?_
  refine BS_call (run_V dX1_hand_1 con_X1_anew (ci := 0) rfl rfl q495 q497 qs2 q136 q498 pd_X1_anew ⟨Nat.le_of_ble_eq_true rfl, Nat.le_of_ble_eq_true rfl⟩) BV_no ?_
  refine BS_aload_n dX1_hand_4 rfl ?_
  refine BS_iload_n dX1_hand_5 rfl ?_
  refine BS_call (run_V dX1_hand_6 con_X1_isPerson (ci := 0) rfl rfl q1126 q1128 qs31 q136 q1129 pd_X1_isPerson ⟨Nat.le_of_ble_eq_true rfl, Nat.le_of_ble_eq_true rfl⟩) BV_no ?_
  refine BS_if_ne (tgt := 19) dX1_hand_9 (by decide) ?_ ?_
  · refine BS_aload_n dX1_hand_19 rfl ?_
    refine BS_gfr f_X1_108 dX1_hand_20 ?_
    refine BS_gfr f_X1_176 dX1_hand_23 ?_
    refine BS_iload_n dX1_hand_26 rfl ?_
    refine BS_aaload dX1_hand_27 (by decide) (by decide) (C := "LongerHalf$Person") rfl ?_
    refine BS_astore_n dX1_hand_28 rfl (Nat.le_of_ble_eq_true rfl) ?_
    refine BS_aload_n dX1_hand_29 rfl ?_
    refine BS_gfi f_X1_192 dX1_hand_30 ?_
    refine BS_aload_n dX1_hand_33 rfl ?_
    refine BS_gfi f_X1_195 dX1_hand_34 ?_
    refine BS_call (run_S dX1_hand_37 con_X1_tail q1440 q1441 q136 q1442 pd_X1_tail ⟨Nat.le_of_ble_eq_true rfl, Nat.le_of_ble_eq_true rfl⟩) BV_no ?_
    refine BS_lconst dX1_hand_40 (by decide) ?_
    refine BS_aload_n dX1_hand_41 rfl ?_
    refine BS_gfi f_X1_192 dX1_hand_42 ?_
    refine BS_lshl dX1_hand_45 ?_
    refine BS_iload_n dX1_hand_46 rfl ?_
    refine BS_call (run_S dX1_hand_47 con_X1_lowest q1274 q1275 q136 q1276 pd_X1_lowest ⟨Nat.le_of_ble_eq_true rfl, Nat.le_of_ble_eq_true rfl⟩) BV_no ?_
    exact BS_lreturn dX1_hand_50 rfl
  · refine BS_aload_n dX1_hand_12 rfl ?_
    refine BS_iconst dX1_hand_13 (by decide) ?_
    refine BS_call (run_V dX1_hand_14 con_X1_no (ci := 0) rfl rfl q502 q504 qs3 q136 q505 pd_X1_no ⟨Nat.le_of_ble_eq_true rfl, Nat.le_of_ble_eq_true rfl⟩) BV_no ?_
    refine BS_i2l dX1_hand_17 ?_
    exact BS_lreturn dX1_hand_18 rfl
noncomputable def F_X1_hand : FF := mk_F 4 F_X1_hand_b0
theorem con_X1_hand : Con_ yX1_hand (ws_ yX1_hand cX1_hand 4 (some .long)) 202 4647 F_X1_hand := Con_of (by decide +kernel) bs_X1_hand_b0
/-- LongerHalf.side(Z)J -/
abbrev M_X1_side : MM := (yX1_side, cX1_side, (some .long), 202, 4647, 2, [])
theorem pd_X1_side : (yX1_side.cls ≠ "java/lang/invoke/MethodHandle" ∧ yX1_side.cls ≠ "java/lang/invoke/VarHandle") ∧ (parseMethodDescriptor yX1_side.desc).map (fun d => d.parameters.length) = some 1 := ⟨⟨by decide +kernel, by decide +kernel⟩, by decide +kernel⟩
noncomputable def F_X1_side_b0 : KK OO :=
  op_ald 0 <| op_call 1 (f_kd 10 F_X1_anew) kx_no <| op_ald 0 <| op_gfr [10] 3 <| op_ifnn (op_ald 0 <| op_gfr [10] 3 <| op_gfi [17] 80 <| op_ald 0 <| op_gfr [10] 3 <| op_gfi [17] 81 <| op_call 2 F_X1_tail kx_no <| op_push (.long 1) <| op_ald 0 <| op_gfr [10] 3 <| op_gfi [17] 80 <| op_li (fun x y => x <<< (y.toInt64 &&& 63)) <| op_ild 1 <| op_call 3 F_X1_lowest kx_no <| op_lret) (op_ald 0 <| op_push (.int 1) <| op_call 2 (f_kd 10 F_X1_no) kx_no <| op_i2l <| op_lret)
theorem bs_X1_side_b0 : B_S M_X1_side 0 (F_X1_side_b0) z_O k_O := by
  unfold F_X1_side_b0
  refine BS_aload_n dX1_side_0 rfl ?_
  refine BS_call (run_V dX1_side_1 con_X1_anew (ci := 0) rfl rfl q495 q497 qs2 q136 q498 pd_X1_anew ⟨Nat.le_of_ble_eq_true rfl, Nat.le_of_ble_eq_true rfl⟩) BV_no ?_
  refine BS_aload_n dX1_side_4 rfl ?_
  refine BS_gfr f_X1_108 dX1_side_5 ?_
  refine BS_ifnonnull (tgt := 18) dX1_side_8 (by decide) ?_ ?_
  · refine BS_aload_n dX1_side_18 rfl ?_
    refine BS_gfr f_X1_108 dX1_side_19 ?_
    refine BS_gfi f_X1_326 dX1_side_22 ?_
    refine BS_aload_n dX1_side_25 rfl ?_
    refine BS_gfr f_X1_108 dX1_side_26 ?_
    refine BS_gfi f_X1_329 dX1_side_29 ?_
    refine BS_call (run_S dX1_side_32 con_X1_tail q1440 q1441 q136 q1442 pd_X1_tail ⟨Nat.le_of_ble_eq_true rfl, Nat.le_of_ble_eq_true rfl⟩) BV_no ?_
    refine BS_lconst dX1_side_35 (by decide) ?_
    refine BS_aload_n dX1_side_36 rfl ?_
    refine BS_gfr f_X1_108 dX1_side_37 ?_
    refine BS_gfi f_X1_326 dX1_side_40 ?_
    refine BS_lshl dX1_side_43 ?_
    refine BS_iload_n dX1_side_44 rfl ?_
    refine BS_call (run_S dX1_side_45 con_X1_lowest q1274 q1275 q136 q1276 pd_X1_lowest ⟨Nat.le_of_ble_eq_true rfl, Nat.le_of_ble_eq_true rfl⟩) BV_no ?_
    exact BS_lreturn dX1_side_48 rfl
  · refine BS_aload_n dX1_side_11 rfl ?_
    refine BS_iconst dX1_side_12 (by decide) ?_
    refine BS_call (run_V dX1_side_13 con_X1_no (ci := 0) rfl rfl q502 q504 qs3 q136 q505 pd_X1_no ⟨Nat.le_of_ble_eq_true rfl, Nat.le_of_ble_eq_true rfl⟩) BV_no ?_
    refine BS_i2l dX1_side_16 ?_
    exact BS_lreturn dX1_side_17 rfl
noncomputable def F_X1_side : FF := mk_F 2 F_X1_side_b0
theorem con_X1_side : Con_ yX1_side (ws_ yX1_side cX1_side 2 (some .long)) 202 4647 F_X1_side := Con_of (by decide +kernel) bs_X1_side_b0
/-- LongerHalf.known()I -/
abbrev M_X1_known : MM := (yX1_known, cX1_known, (some .int), 1, 26, 3, [])
theorem pd_X1_known : (yX1_known.cls ≠ "java/lang/invoke/MethodHandle" ∧ yX1_known.cls ≠ "java/lang/invoke/VarHandle") ∧ (parseMethodDescriptor yX1_known.desc).map (fun d => d.parameters.length) = some 0 := ⟨⟨by decide +kernel, by decide +kernel⟩, by decide +kernel⟩
noncomputable def F_X1_known_l21 : KK (L_S ⊕ OO) :=
  op_ild 2 <| op_ald 0 <| op_gfr [10] 3 <| op_gfi [17] 78 <| op_cge (op_exit <| op_ild 1 <| op_iret .int) (op_ild 1 <| op_push (.long 20) <| op_ald 0 <| op_gfr [10] 3 <| op_gfr [17] 69 <| op_ild 2 <| op_aald 6 <| op_gfi [21, 22, 23, 24] 92 <| op_ald 0 <| op_gfr [10] 3 <| op_gfr [17] 69 <| op_ild 2 <| op_aald 6 <| op_gfi [21, 22, 23, 24] 93 <| op_call 2 F_X1_tail kx_no <| op_l2 (fun x y => x * y) <| op_push (.long 1) <| op_ald 0 <| op_gfr [10] 3 <| op_gfr [17] 69 <| op_ild 2 <| op_aald 6 <| op_gfi [21, 22, 23, 24] 92 <| op_li (fun x y => x <<< (y.toInt64 &&& 63)) <| op_lcmp <| op_igt (op_push (.int 0) <| op_i2 (fun x y => x ||| y) <| op_ist 1 <| op_iinc 2 1 <| op_back) (op_push (.int 1) <| op_ild 2 <| op_i2 (fun x y => x <<< (y &&& 31)) <| op_i2 (fun x y => x ||| y) <| op_ist 1 <| op_iinc 2 1 <| op_back))
theorem bs_X1_known_l21 : B_S M_X1_known 21 (F_X1_known_l21) (z_L z_O) (k_L 21 k_O) := by
  unfold F_X1_known_l21
  refine BS_iload_n dX1_known_21 rfl ?_
  refine BS_aload_n dX1_known_22 rfl ?_
  refine BS_gfr f_X1_108 dX1_known_23 ?_
  refine BS_gfi f_X1_133 dX1_known_26 ?_
  refine BS_icmp_ge (tgt := 97) dX1_known_29 (by decide) ?_ ?_
  · refine BS_exit ?_
    refine BS_iload_n dX1_known_97 rfl ?_
    exact BS_ireturn dX1_known_98 rfl
  · refine BS_iload_n dX1_known_32 rfl ?_
    refine BS_ldc2 dX1_known_33 q1451 ?_
    refine BS_aload_n dX1_known_36 rfl ?_
    refine BS_gfr f_X1_108 dX1_known_37 ?_
    refine BS_gfr f_X1_176 dX1_known_40 ?_
    refine BS_iload_n dX1_known_43 rfl ?_
    refine BS_aaload dX1_known_44 (by decide) (by decide) (C := "LongerHalf$Person") rfl ?_
    refine BS_gfi f_X1_192 dX1_known_45 ?_
    refine BS_aload_n dX1_known_48 rfl ?_
    refine BS_gfr f_X1_108 dX1_known_49 ?_
    refine BS_gfr f_X1_176 dX1_known_52 ?_
    refine BS_iload_n dX1_known_55 rfl ?_
    refine BS_aaload dX1_known_56 (by decide) (by decide) (C := "LongerHalf$Person") rfl ?_
    refine BS_gfi f_X1_195 dX1_known_57 ?_
    refine BS_call (run_S dX1_known_60 con_X1_tail q1440 q1441 q136 q1442 pd_X1_tail ⟨Nat.le_of_ble_eq_true rfl, Nat.le_of_ble_eq_true rfl⟩) BV_no ?_
    refine BS_lmul dX1_known_63 ?_
    refine BS_lconst dX1_known_64 (by decide) ?_
    refine BS_aload_n dX1_known_65 rfl ?_
    refine BS_gfr f_X1_108 dX1_known_66 ?_
    refine BS_gfr f_X1_176 dX1_known_69 ?_
    refine BS_iload_n dX1_known_72 rfl ?_
    refine BS_aaload dX1_known_73 (by decide) (by decide) (C := "LongerHalf$Person") rfl ?_
    refine BS_gfi f_X1_192 dX1_known_74 ?_
    refine BS_lshl dX1_known_77 ?_
    refine BS_lcmp dX1_known_78 ?_
    refine BS_if_gt (tgt := 88) dX1_known_79 (by decide) ?_ ?_
    · refine BS_iconst dX1_known_88 (by decide) ?_
      refine BS_ior dX1_known_89 ?_
      refine BS_istore_n dX1_known_90 rfl (Nat.le_of_ble_eq_true rfl) ?_
      refine BS_iinc dX1_known_91 (by decide) (Nat.le_of_ble_eq_true rfl) ?_
      refine BS_goto (tgt := 21) dX1_known_94 (by decide) ?_
      exact BS_back
    · refine BS_iconst dX1_known_82 (by decide) ?_
      refine BS_iload_n dX1_known_83 rfl ?_
      refine BS_ishl dX1_known_84 ?_
      refine BS_goto (tgt := 89) dX1_known_85 (by decide) ?_
      refine BS_ior dX1_known_89 ?_
      refine BS_istore_n dX1_known_90 rfl (Nat.le_of_ble_eq_true rfl) ?_
      refine BS_iinc dX1_known_91 (by decide) (Nat.le_of_ble_eq_true rfl) ?_
      refine BS_goto (tgt := 21) dX1_known_94 (by decide) ?_
      exact BS_back
noncomputable def F_X1_known_b21 : KK OO := op_loop (F_X1_known_l21)
theorem bs_X1_known_b21 : B_S M_X1_known 21 (F_X1_known_b21) z_O k_O := BS_loop (bs_X1_known_l21)
noncomputable def F_X1_known_b0 : KK OO :=
  op_ald 0 <| op_call 1 (f_kd 10 F_X1_anew) kx_no <| op_ald 0 <| op_gfr [10] 3 <| op_ifnn (op_push (.int 0) <| op_ist 1 <| op_push (.int 0) <| op_ist 2 <| F_X1_known_b21) (op_ald 0 <| op_push (.int 1) <| op_call 2 (f_kd 10 F_X1_no) kx_no <| op_iret .int)
theorem bs_X1_known_b0 : B_S M_X1_known 0 (F_X1_known_b0) z_O k_O := by
  unfold F_X1_known_b0
  refine BS_aload_n dX1_known_0 rfl ?_
  refine BS_call (run_V dX1_known_1 con_X1_anew (ci := 0) rfl rfl q495 q497 qs2 q136 q498 pd_X1_anew ⟨Nat.le_of_ble_eq_true rfl, Nat.le_of_ble_eq_true rfl⟩) BV_no ?_
  refine BS_aload_n dX1_known_4 rfl ?_
  refine BS_gfr f_X1_108 dX1_known_5 ?_
  refine BS_ifnonnull (tgt := 17) dX1_known_8 (by decide) ?_ ?_
  · refine BS_iconst dX1_known_17 (by decide) ?_
    refine BS_istore_n dX1_known_18 rfl (Nat.le_of_ble_eq_true rfl) ?_
    refine BS_iconst dX1_known_19 (by decide) ?_
    refine BS_istore_n dX1_known_20 rfl (Nat.le_of_ble_eq_true rfl) ?_
    exact bs_X1_known_b21
  · refine BS_aload_n dX1_known_11 rfl ?_
    refine BS_iconst dX1_known_12 (by decide) ?_
    refine BS_call (run_V dX1_known_13 con_X1_no (ci := 0) rfl rfl q502 q504 qs3 q136 q505 pd_X1_no ⟨Nat.le_of_ble_eq_true rfl, Nat.le_of_ble_eq_true rfl⟩) BV_no ?_
    exact BS_ireturn dX1_known_16 rfl
noncomputable def F_X1_known : FF := mk_F 3 F_X1_known_b0
theorem con_X1_known : Con_ yX1_known (ws_ yX1_known cX1_known 3 (some .int)) 1 26 F_X1_known := Con_of (by decide +kernel) bs_X1_known_b0
/-- LongerHalf.hens(I)I -/
abbrev M_X1_hens : MM := (yX1_hens, cX1_hens, (some .int), 1, 22, 3, [])
theorem pd_X1_hens : (yX1_hens.cls ≠ "java/lang/invoke/MethodHandle" ∧ yX1_hens.cls ≠ "java/lang/invoke/VarHandle") ∧ (parseMethodDescriptor yX1_hens.desc).map (fun d => d.parameters.length) = some 1 := ⟨⟨by decide +kernel, by decide +kernel⟩, by decide +kernel⟩
noncomputable def F_X1_hens_l36 : KK (L_S ⊕ OO) :=
  op_push (.int 1) <| op_ild 2 <| op_i2 (fun x y => x <<< (y &&& 31)) <| op_ild 1 <| op_cge (op_exit <| op_ild 2 <| op_iret .int) (op_iinc 2 1 <| op_back)
theorem bs_X1_hens_l36 : B_S M_X1_hens 36 (F_X1_hens_l36) (z_L z_O) (k_L 36 k_O) := by
  unfold F_X1_hens_l36
  refine BS_iconst dX1_hens_36 (by decide) ?_
  refine BS_iload_n dX1_hens_37 rfl ?_
  refine BS_ishl dX1_hens_38 ?_
  refine BS_iload_n dX1_hens_39 rfl ?_
  refine BS_icmp_ge (tgt := 49) dX1_hens_40 (by decide) ?_ ?_
  · refine BS_exit ?_
    refine BS_iload_n dX1_hens_49 rfl ?_
    exact BS_ireturn dX1_hens_50 rfl
  · refine BS_iinc dX1_hens_43 (by decide) (Nat.le_of_ble_eq_true rfl) ?_
    refine BS_goto (tgt := 36) dX1_hens_46 (by decide) ?_
    exact BS_back
noncomputable def F_X1_hens_b36 : KK OO := op_loop (F_X1_hens_l36)
theorem bs_X1_hens_b36 : B_S M_X1_hens 36 (F_X1_hens_b36) z_O k_O := BS_loop (bs_X1_hens_l36)
noncomputable def F_X1_hens_b0 : KK OO :=
  op_ald 0 <| op_call 1 (f_kd 10 F_X1_anew) kx_no <| op_ald 0 <| op_gfr [10] 3 <| op_ifnn (op_ild 1 <| op_push (.int 1) <| op_push (.int 1000000) <| op_call 3 F_X1_in kx_no <| op_ine (op_push (.int 0) <| op_ist 2 <| F_X1_hens_b36) (op_ald 0 <| op_push (.int 2) <| op_call 2 (f_kd 10 F_X1_no) kx_no <| op_iret .int)) (op_ald 0 <| op_push (.int 1) <| op_call 2 (f_kd 10 F_X1_no) kx_no <| op_iret .int)
theorem bs_X1_hens_b0 : B_S M_X1_hens 0 (F_X1_hens_b0) z_O k_O := by
  unfold F_X1_hens_b0
  refine BS_aload_n dX1_hens_0 rfl ?_
  refine BS_call (run_V dX1_hens_1 con_X1_anew (ci := 0) rfl rfl q495 q497 qs2 q136 q498 pd_X1_anew ⟨Nat.le_of_ble_eq_true rfl, Nat.le_of_ble_eq_true rfl⟩) BV_no ?_
  refine BS_aload_n dX1_hens_4 rfl ?_
  refine BS_gfr f_X1_108 dX1_hens_5 ?_
  refine BS_ifnonnull (tgt := 17) dX1_hens_8 (by decide) ?_ ?_
  · refine BS_iload_n dX1_hens_17 rfl ?_
    refine BS_iconst dX1_hens_18 (by decide) ?_
    refine BS_ldcw dX1_hens_19 q1456 ?_
    refine BS_call (run_S dX1_hens_22 con_X1_in q499 q500 q136 q501 pd_X1_in ⟨Nat.le_of_ble_eq_true rfl, Nat.le_of_ble_eq_true rfl⟩) BV_no ?_
    refine BS_if_ne (tgt := 34) dX1_hens_25 (by decide) ?_ ?_
    · refine BS_iconst dX1_hens_34 (by decide) ?_
      refine BS_istore_n dX1_hens_35 rfl (Nat.le_of_ble_eq_true rfl) ?_
      exact bs_X1_hens_b36
    · refine BS_aload_n dX1_hens_28 rfl ?_
      refine BS_iconst dX1_hens_29 (by decide) ?_
      refine BS_call (run_V dX1_hens_30 con_X1_no (ci := 0) rfl rfl q502 q504 qs3 q136 q505 pd_X1_no ⟨Nat.le_of_ble_eq_true rfl, Nat.le_of_ble_eq_true rfl⟩) BV_no ?_
      exact BS_ireturn dX1_hens_33 rfl
  · refine BS_aload_n dX1_hens_11 rfl ?_
    refine BS_iconst dX1_hens_12 (by decide) ?_
    refine BS_call (run_V dX1_hens_13 con_X1_no (ci := 0) rfl rfl q502 q504 qs3 q136 q505 pd_X1_no ⟨Nat.le_of_ble_eq_true rfl, Nat.le_of_ble_eq_true rfl⟩) BV_no ?_
    exact BS_ireturn dX1_hens_16 rfl
noncomputable def F_X1_hens : FF := mk_F 3 F_X1_hens_b0
theorem con_X1_hens : Con_ yX1_hens (ws_ yX1_hens cX1_hens 3 (some .int)) 1 22 F_X1_hens := Con_of (by decide +kernel) bs_X1_hens_b0
/-- LongerHalf.likely(III)J -/
abbrev M_X1_likely : MM := (yX1_likely, cX1_likely, (some .long), 0, 0, 6, [])
theorem pd_X1_likely : (yX1_likely.cls ≠ "java/lang/invoke/MethodHandle" ∧ yX1_likely.cls ≠ "java/lang/invoke/VarHandle") ∧ (parseMethodDescriptor yX1_likely.desc).map (fun d => d.parameters.length) = some 3 := ⟨⟨by decide +kernel, by decide +kernel⟩, by decide +kernel⟩
noncomputable def F_X1_likely_l25 : KK (L_S ⊕ OO) :=
  op_ild 5 <| op_ild 2 <| op_cge (op_exit <| op_lld 3 <| op_lret) (op_lld 3 <| op_push (.int 10) <| op_ild 0 <| op_i2 (fun x y => x - y) <| op_i2l <| op_l2 (fun x y => x * y) <| op_lst 3 <| op_iinc 5 1 <| op_back)
theorem bs_X1_likely_l25 : B_S M_X1_likely 25 (F_X1_likely_l25) (z_L z_O) (k_L 25 k_O) := by
  unfold F_X1_likely_l25
  refine BS_iload dX1_likely_25 ?_
  refine BS_iload_n dX1_likely_27 rfl ?_
  refine BS_icmp_ge (tgt := 45) dX1_likely_28 (by decide) ?_ ?_
  · refine BS_exit ?_
    refine BS_lload_n dX1_likely_45 rfl ?_
    exact BS_lreturn dX1_likely_46 rfl
  · refine BS_lload_n dX1_likely_31 rfl ?_
    refine BS_bipush dX1_likely_32 (by decide) ?_
    refine BS_iload_n dX1_likely_34 rfl ?_
    refine BS_isub dX1_likely_35 ?_
    refine BS_i2l dX1_likely_36 ?_
    refine BS_lmul dX1_likely_37 ?_
    refine BS_lstore_n dX1_likely_38 rfl (Nat.le_of_ble_eq_true rfl) ?_
    refine BS_iinc dX1_likely_39 (by decide) (Nat.le_of_ble_eq_true rfl) ?_
    refine BS_goto (tgt := 25) dX1_likely_42 (by decide) ?_
    exact BS_back
noncomputable def F_X1_likely_b25 : KK OO := op_loop (F_X1_likely_l25)
theorem bs_X1_likely_b25 : B_S M_X1_likely 25 (F_X1_likely_b25) z_O k_O := BS_loop (bs_X1_likely_l25)
noncomputable def F_X1_likely_l5 : KK (L_S ⊕ OO) :=
  op_ild 5 <| op_ild 1 <| op_cge (op_exit <| op_push (.int 0) <| op_ist 5 <| F_X1_likely_b25) (op_lld 3 <| op_ild 0 <| op_i2l <| op_l2 (fun x y => x * y) <| op_lst 3 <| op_iinc 5 1 <| op_back)
theorem bs_X1_likely_l5 : B_S M_X1_likely 5 (F_X1_likely_l5) (z_L z_O) (k_L 5 k_O) := by
  unfold F_X1_likely_l5
  refine BS_iload dX1_likely_5 ?_
  refine BS_iload_n dX1_likely_7 rfl ?_
  refine BS_icmp_ge (tgt := 22) dX1_likely_8 (by decide) ?_ ?_
  · refine BS_exit ?_
    refine BS_iconst dX1_likely_22 (by decide) ?_
    refine BS_istore dX1_likely_23 (Nat.le_of_ble_eq_true rfl) ?_
    exact bs_X1_likely_b25
  · refine BS_lload_n dX1_likely_11 rfl ?_
    refine BS_iload_n dX1_likely_12 rfl ?_
    refine BS_i2l dX1_likely_13 ?_
    refine BS_lmul dX1_likely_14 ?_
    refine BS_lstore_n dX1_likely_15 rfl (Nat.le_of_ble_eq_true rfl) ?_
    refine BS_iinc dX1_likely_16 (by decide) (Nat.le_of_ble_eq_true rfl) ?_
    refine BS_goto (tgt := 5) dX1_likely_19 (by decide) ?_
    exact BS_back
noncomputable def F_X1_likely_b5 : KK OO := op_loop (F_X1_likely_l5)
theorem bs_X1_likely_b5 : B_S M_X1_likely 5 (F_X1_likely_b5) z_O k_O := BS_loop (bs_X1_likely_l5)
noncomputable def F_X1_likely_b0 : KK OO :=
  op_push (.long 1) <| op_lst 3 <| op_push (.int 0) <| op_ist 5 <| F_X1_likely_b5
theorem bs_X1_likely_b0 : B_S M_X1_likely 0 (F_X1_likely_b0) z_O k_O := by
  unfold F_X1_likely_b0
  refine BS_lconst dX1_likely_0 (by decide) ?_
  refine BS_lstore_n dX1_likely_1 rfl (Nat.le_of_ble_eq_true rfl) ?_
  refine BS_iconst dX1_likely_2 (by decide) ?_
  refine BS_istore dX1_likely_3 (Nat.le_of_ble_eq_true rfl) ?_
  exact bs_X1_likely_b5
noncomputable def F_X1_likely : FF := mk_F 6 F_X1_likely_b0
theorem con_X1_likely : Con_ yX1_likely (ws_ yX1_likely cX1_likely 6 (some .long)) 0 0 F_X1_likely := Con_of (by decide +kernel) bs_X1_likely_b0
/-- LongerHalf.thumbs(IZ)J -/
abbrev M_X1_thumbs : MM := (yX1_thumbs, cX1_thumbs, (some .long), 202, 4647, 8, [])
theorem pd_X1_thumbs : (yX1_thumbs.cls ≠ "java/lang/invoke/MethodHandle" ∧ yX1_thumbs.cls ≠ "java/lang/invoke/VarHandle") ∧ (parseMethodDescriptor yX1_thumbs.desc).map (fun d => d.parameters.length) = some 2 := ⟨⟨by decide +kernel, by decide +kernel⟩, by decide +kernel⟩
noncomputable def F_X1_thumbs_b99 : KK OO :=
  op_call 3 F_X1_likely kx_no <| op_l2 (fun x y => x * y) <| op_lst 6 <| op_lld 4 <| op_lld 4 <| op_lld 6 <| op_l2 (fun x y => x + y) <| op_ild 2 <| op_call 3 F_X1_lowest kx_no <| op_lret
theorem bs_X1_thumbs_b99 : B_S M_X1_thumbs 99 (F_X1_thumbs_b99) z_O k_O := by
  unfold F_X1_thumbs_b99
  refine BS_call (run_S dX1_thumbs_99 con_X1_likely q1461 q1462 q136 q1463 pd_X1_likely ⟨Nat.le_of_ble_eq_true rfl, Nat.le_of_ble_eq_true rfl⟩) BV_no ?_
  refine BS_lmul dX1_thumbs_102 ?_
  refine BS_lstore dX1_thumbs_103 (Nat.le_of_ble_eq_true rfl) ?_
  refine BS_lload dX1_thumbs_105 ?_
  refine BS_lload dX1_thumbs_107 ?_
  refine BS_lload dX1_thumbs_109 ?_
  refine BS_ladd dX1_thumbs_111 ?_
  refine BS_iload_n dX1_thumbs_112 rfl ?_
  refine BS_call (run_S dX1_thumbs_113 con_X1_lowest q1274 q1275 q136 q1276 pd_X1_lowest ⟨Nat.le_of_ble_eq_true rfl, Nat.le_of_ble_eq_true rfl⟩) BV_no ?_
  exact BS_lreturn dX1_thumbs_116 rfl
noncomputable def F_X1_thumbs_b38 : KK OO :=
  op_ald 0 <| op_push (.int 6) <| op_call 2 (f_kd 10 F_X1_no) kx_no <| op_i2l <| op_lret
theorem bs_X1_thumbs_b38 : B_S M_X1_thumbs 38 (F_X1_thumbs_b38) z_O k_O := by
  unfold F_X1_thumbs_b38
  refine BS_aload_n dX1_thumbs_38 rfl ?_
  refine BS_bipush dX1_thumbs_39 (by decide) ?_
  refine BS_call (run_V dX1_thumbs_41 con_X1_no (ci := 0) rfl rfl q502 q504 qs3 q136 q505 pd_X1_no ⟨Nat.le_of_ble_eq_true rfl, Nat.le_of_ble_eq_true rfl⟩) BV_no ?_
  refine BS_i2l dX1_thumbs_44 ?_
  exact BS_lreturn dX1_thumbs_45 rfl
noncomputable def F_X1_thumbs_b12 : KK OO :=
  op_ald 0 <| op_push (.int 1) <| op_call 2 (f_kd 10 F_X1_no) kx_no <| op_i2l <| op_lret
theorem bs_X1_thumbs_b12 : B_S M_X1_thumbs 12 (F_X1_thumbs_b12) z_O k_O := by
  unfold F_X1_thumbs_b12
  refine BS_aload_n dX1_thumbs_12 rfl ?_
  refine BS_iconst dX1_thumbs_13 (by decide) ?_
  refine BS_call (run_V dX1_thumbs_14 con_X1_no (ci := 0) rfl rfl q502 q504 qs3 q136 q505 pd_X1_no ⟨Nat.le_of_ble_eq_true rfl, Nat.le_of_ble_eq_true rfl⟩) BV_no ?_
  refine BS_i2l dX1_thumbs_17 ?_
  exact BS_lreturn dX1_thumbs_18 rfl
noncomputable def F_X1_thumbs_b0 : KK OO :=
  op_ald 0 <| op_call 1 (f_kd 10 F_X1_anew) kx_no <| op_ald 0 <| op_ild 1 <| op_call 2 (f_kd 10 F_X1_isPerson) kx_no <| op_ine (op_ald 0 <| op_gfr [10] 3 <| op_gfr [17] 69 <| op_ild 1 <| op_aald 6 <| op_ast 3 <| op_ald 3 <| op_gfi [21, 22, 23, 24] 94 <| op_push (.int (-2)) <| op_cne (op_ald 3 <| op_gfi [21, 22, 23, 24] 94 <| op_i2l <| op_ald 3 <| op_gfi [21, 22, 23, 24] 95 <| op_ald 3 <| op_gfi [21, 22, 23, 24] 93 <| op_ald 3 <| op_gfi [21, 22, 23, 24] 92 <| op_ald 3 <| op_gfi [21, 22, 23, 24] 93 <| op_i2 (fun x y => x - y) <| op_call 3 F_X1_likely kx_no <| op_l2 (fun x y => x * y) <| op_lst 4 <| op_push (.int 100) <| op_ald 3 <| op_gfi [21, 22, 23, 24] 94 <| op_i2 (fun x y => x - y) <| op_i2l <| op_ald 3 <| op_gfi [21, 22, 23, 24] 96 <| op_ald 3 <| op_gfi [21, 22, 23, 24] 93 <| op_ald 3 <| op_gfi [21, 22, 23, 24] 92 <| op_ald 3 <| op_gfi [21, 22, 23, 24] 93 <| op_i2 (fun x y => x - y) <| F_X1_thumbs_b99) (F_X1_thumbs_b38)) (F_X1_thumbs_b12)
theorem bs_X1_thumbs_b0 : B_S M_X1_thumbs 0 (F_X1_thumbs_b0) z_O k_O := by
  unfold F_X1_thumbs_b0
  refine BS_aload_n dX1_thumbs_0 rfl ?_
  refine BS_call (run_V dX1_thumbs_1 con_X1_anew (ci := 0) rfl rfl q495 q497 qs2 q136 q498 pd_X1_anew ⟨Nat.le_of_ble_eq_true rfl, Nat.le_of_ble_eq_true rfl⟩) BV_no ?_
  refine BS_aload_n dX1_thumbs_4 rfl ?_
  refine BS_iload_n dX1_thumbs_5 rfl ?_
  refine BS_call (run_V dX1_thumbs_6 con_X1_isPerson (ci := 0) rfl rfl q1126 q1128 qs31 q136 q1129 pd_X1_isPerson ⟨Nat.le_of_ble_eq_true rfl, Nat.le_of_ble_eq_true rfl⟩) BV_no ?_
  refine BS_if_ne (tgt := 19) dX1_thumbs_9 (by decide) ?_ ?_
  · refine BS_aload_n dX1_thumbs_19 rfl ?_
    refine BS_gfr f_X1_108 dX1_thumbs_20 ?_
    refine BS_gfr f_X1_176 dX1_thumbs_23 ?_
    refine BS_iload_n dX1_thumbs_26 rfl ?_
    refine BS_aaload dX1_thumbs_27 (by decide) (by decide) (C := "LongerHalf$Person") rfl ?_
    refine BS_astore_n dX1_thumbs_28 rfl (Nat.le_of_ble_eq_true rfl) ?_
    refine BS_aload_n dX1_thumbs_29 rfl ?_
    refine BS_gfi f_X1_335 dX1_thumbs_30 ?_
    refine BS_bipush dX1_thumbs_33 (by decide) ?_
    refine BS_icmp_ne (tgt := 46) dX1_thumbs_35 (by decide) ?_ ?_
    · refine BS_aload_n dX1_thumbs_46 rfl ?_
      refine BS_gfi f_X1_335 dX1_thumbs_47 ?_
      refine BS_i2l dX1_thumbs_50 ?_
      refine BS_aload_n dX1_thumbs_51 rfl ?_
      refine BS_gfi f_X1_338 dX1_thumbs_52 ?_
      refine BS_aload_n dX1_thumbs_55 rfl ?_
      refine BS_gfi f_X1_195 dX1_thumbs_56 ?_
      refine BS_aload_n dX1_thumbs_59 rfl ?_
      refine BS_gfi f_X1_192 dX1_thumbs_60 ?_
      refine BS_aload_n dX1_thumbs_63 rfl ?_
      refine BS_gfi f_X1_195 dX1_thumbs_64 ?_
      refine BS_isub dX1_thumbs_67 ?_
      refine BS_call (run_S dX1_thumbs_68 con_X1_likely q1461 q1462 q136 q1463 pd_X1_likely ⟨Nat.le_of_ble_eq_true rfl, Nat.le_of_ble_eq_true rfl⟩) BV_no ?_
      refine BS_lmul dX1_thumbs_71 ?_
      refine BS_lstore dX1_thumbs_72 (Nat.le_of_ble_eq_true rfl) ?_
      refine BS_bipush dX1_thumbs_74 (by decide) ?_
      refine BS_aload_n dX1_thumbs_76 rfl ?_
      refine BS_gfi f_X1_335 dX1_thumbs_77 ?_
      refine BS_isub dX1_thumbs_80 ?_
      refine BS_i2l dX1_thumbs_81 ?_
      refine BS_aload_n dX1_thumbs_82 rfl ?_
      refine BS_gfi f_X1_345 dX1_thumbs_83 ?_
      refine BS_aload_n dX1_thumbs_86 rfl ?_
      refine BS_gfi f_X1_195 dX1_thumbs_87 ?_
      refine BS_aload_n dX1_thumbs_90 rfl ?_
      refine BS_gfi f_X1_192 dX1_thumbs_91 ?_
      refine BS_aload_n dX1_thumbs_94 rfl ?_
      refine BS_gfi f_X1_195 dX1_thumbs_95 ?_
      refine BS_isub dX1_thumbs_98 ?_
      exact bs_X1_thumbs_b99
    · exact bs_X1_thumbs_b38
  · exact bs_X1_thumbs_b12
noncomputable def F_X1_thumbs : FF := mk_F 8 F_X1_thumbs_b0
theorem con_X1_thumbs : Con_ yX1_thumbs (ws_ yX1_thumbs cX1_thumbs 8 (some .long)) 202 4647 F_X1_thumbs := Con_of (by decide +kernel) bs_X1_thumbs_b0
/-- LongerHalf.worthOf(I)I -/
abbrev M_X1_worthOf : MM := (yX1_worthOf, cX1_worthOf, (some .int), 0, 0, 4, [])
theorem pd_X1_worthOf : (yX1_worthOf.cls ≠ "java/lang/invoke/MethodHandle" ∧ yX1_worthOf.cls ≠ "java/lang/invoke/VarHandle") ∧ (parseMethodDescriptor yX1_worthOf.desc).map (fun d => d.parameters.length) = some 1 := ⟨⟨by decide +kernel, by decide +kernel⟩, by decide +kernel⟩
noncomputable def F_X1_worthOf_l15 : KK (L_S ⊕ OO) :=
  op_ild 3 <| op_ald 0 <| op_gfr [10] 3 <| op_gfi [17] 78 <| op_cge (op_exit <| op_ild 2 <| op_iret .int) (op_ild 2 <| op_ald 0 <| op_gfr [10] 3 <| op_gfr [17] 69 <| op_ild 1 <| op_aald 6 <| op_gfr [21, 22, 23, 24] 88 <| op_ild 3 <| op_iald 1 <| op_i2 (fun x y => x + y) <| op_ist 2 <| op_iinc 3 1 <| op_back)
theorem bs_X1_worthOf_l15 : B_S M_X1_worthOf 15 (F_X1_worthOf_l15) (z_L z_O) (k_L 15 k_O) := by
  unfold F_X1_worthOf_l15
  refine BS_iload_n dX1_worthOf_15 rfl ?_
  refine BS_aload_n dX1_worthOf_16 rfl ?_
  refine BS_gfr f_X1_108 dX1_worthOf_17 ?_
  refine BS_gfi f_X1_133 dX1_worthOf_20 ?_
  refine BS_icmp_ge (tgt := 49) dX1_worthOf_23 (by decide) ?_ ?_
  · refine BS_exit ?_
    refine BS_iload_n dX1_worthOf_49 rfl ?_
    exact BS_ireturn dX1_worthOf_50 rfl
  · refine BS_iload_n dX1_worthOf_26 rfl ?_
    refine BS_aload_n dX1_worthOf_27 rfl ?_
    refine BS_gfr f_X1_108 dX1_worthOf_28 ?_
    refine BS_gfr f_X1_176 dX1_worthOf_31 ?_
    refine BS_iload_n dX1_worthOf_34 rfl ?_
    refine BS_aaload dX1_worthOf_35 (by decide) (by decide) (C := "LongerHalf$Person") rfl ?_
    refine BS_gfr f_X1_348 dX1_worthOf_36 ?_
    refine BS_iload_n dX1_worthOf_39 rfl ?_
    refine BS_iaload dX1_worthOf_40 ?_
    refine BS_iadd dX1_worthOf_41 ?_
    refine BS_istore_n dX1_worthOf_42 rfl (Nat.le_of_ble_eq_true rfl) ?_
    refine BS_iinc dX1_worthOf_43 (by decide) (Nat.le_of_ble_eq_true rfl) ?_
    refine BS_goto (tgt := 15) dX1_worthOf_46 (by decide) ?_
    exact BS_back
noncomputable def F_X1_worthOf_b15 : KK OO := op_loop (F_X1_worthOf_l15)
theorem bs_X1_worthOf_b15 : B_S M_X1_worthOf 15 (F_X1_worthOf_b15) z_O k_O := BS_loop (bs_X1_worthOf_l15)
noncomputable def F_X1_worthOf_b0 : KK OO :=
  op_ald 0 <| op_gfr [10] 3 <| op_gfr [17] 69 <| op_ild 1 <| op_aald 6 <| op_gfi [21, 22, 23, 24] 91 <| op_ist 2 <| op_push (.int 0) <| op_ist 3 <| F_X1_worthOf_b15
theorem bs_X1_worthOf_b0 : B_S M_X1_worthOf 0 (F_X1_worthOf_b0) z_O k_O := by
  unfold F_X1_worthOf_b0
  refine BS_aload_n dX1_worthOf_0 rfl ?_
  refine BS_gfr f_X1_108 dX1_worthOf_1 ?_
  refine BS_gfr f_X1_176 dX1_worthOf_4 ?_
  refine BS_iload_n dX1_worthOf_7 rfl ?_
  refine BS_aaload dX1_worthOf_8 (by decide) (by decide) (C := "LongerHalf$Person") rfl ?_
  refine BS_gfi f_X1_189 dX1_worthOf_9 ?_
  refine BS_istore_n dX1_worthOf_12 rfl (Nat.le_of_ble_eq_true rfl) ?_
  refine BS_iconst dX1_worthOf_13 (by decide) ?_
  refine BS_istore_n dX1_worthOf_14 rfl (Nat.le_of_ble_eq_true rfl) ?_
  exact bs_X1_worthOf_b15
noncomputable def F_X1_worthOf : FF := mk_F 4 F_X1_worthOf_b0
theorem con_X1_worthOf : Con_ yX1_worthOf (ws_ yX1_worthOf cX1_worthOf 4 (some .int)) 0 0 F_X1_worthOf := Con_of (by decide +kernel) bs_X1_worthOf_b0
/-- LongerHalf.let(II)I -/
abbrev M_X1_let : MM := (yX1_let, cX1_let, (some .int), 3, 65, 5, [])
theorem pd_X1_let : (yX1_let.cls ≠ "java/lang/invoke/MethodHandle" ∧ yX1_let.cls ≠ "java/lang/invoke/VarHandle") ∧ (parseMethodDescriptor yX1_let.desc).map (fun d => d.parameters.length) = some 2 := ⟨⟨by decide +kernel, by decide +kernel⟩, by decide +kernel⟩
noncomputable def F_X1_let_b0 : KK OO :=
  op_ald 0 <| op_call 1 (f_kd 10 F_X1_anew) kx_no <| op_ald 0 <| op_ild 1 <| op_ild 2 <| op_call 3 (f_kd 10 F_X1_isPair) kx_no <| op_ine (op_ild 1 <| op_ild 2 <| op_m2i (fun x y => if y < x then y else x) <| op_ist 3 <| op_ild 1 <| op_ild 2 <| op_m2i (fun x y => if x < y then y else x) <| op_ist 4 <| op_ald 0 <| op_ild 4 <| op_call 2 (f_kd 10 F_X1_worthOf) kx_no <| op_ald 0 <| op_ild 3 <| op_call 2 (f_kd 10 F_X1_worthOf) kx_no <| op_cle (op_ild 3 <| op_iret .int) (op_ild 4 <| op_iret .int)) (op_ald 0 <| op_push (.int 1) <| op_call 2 (f_kd 10 F_X1_no) kx_no <| op_iret .int)
theorem bs_X1_let_b0 : B_S M_X1_let 0 (F_X1_let_b0) z_O k_O := by
  unfold F_X1_let_b0
  refine BS_aload_n dX1_let_0 rfl ?_
  refine BS_call (run_V dX1_let_1 con_X1_anew (ci := 0) rfl rfl q495 q497 qs2 q136 q498 pd_X1_anew ⟨Nat.le_of_ble_eq_true rfl, Nat.le_of_ble_eq_true rfl⟩) BV_no ?_
  refine BS_aload_n dX1_let_4 rfl ?_
  refine BS_iload_n dX1_let_5 rfl ?_
  refine BS_iload_n dX1_let_6 rfl ?_
  refine BS_call (run_V dX1_let_7 con_X1_isPair (ci := 0) rfl rfl q1184 q1186 qs35 q136 q1187 pd_X1_isPair ⟨Nat.le_of_ble_eq_true rfl, Nat.le_of_ble_eq_true rfl⟩) BV_no ?_
  refine BS_if_ne (tgt := 19) dX1_let_10 (by decide) ?_ ?_
  · refine BS_iload_n dX1_let_19 rfl ?_
    refine BS_iload_n dX1_let_20 rfl ?_
    refine BS_mmin dX1_let_21 q1468 (Nat.le_of_ble_eq_true rfl) (Nat.le_of_ble_eq_true rfl) ?_
    refine BS_istore_n dX1_let_24 rfl (Nat.le_of_ble_eq_true rfl) ?_
    refine BS_iload_n dX1_let_25 rfl ?_
    refine BS_iload_n dX1_let_26 rfl ?_
    refine BS_mmax dX1_let_27 q1469 (Nat.le_of_ble_eq_true rfl) (Nat.le_of_ble_eq_true rfl) ?_
    refine BS_istore dX1_let_30 (Nat.le_of_ble_eq_true rfl) ?_
    refine BS_aload_n dX1_let_32 rfl ?_
    refine BS_iload dX1_let_33 ?_
    refine BS_call (run_V dX1_let_35 con_X1_worthOf (ci := 0) rfl rfl q1472 q1474 qs50 q136 q1475 pd_X1_worthOf ⟨Nat.le_of_ble_eq_true rfl, Nat.le_of_ble_eq_true rfl⟩) BV_no ?_
    refine BS_aload_n dX1_let_38 rfl ?_
    refine BS_iload_n dX1_let_39 rfl ?_
    refine BS_call (run_V dX1_let_40 con_X1_worthOf (ci := 0) rfl rfl q1472 q1474 qs50 q136 q1475 pd_X1_worthOf ⟨Nat.le_of_ble_eq_true rfl, Nat.le_of_ble_eq_true rfl⟩) BV_no ?_
    refine BS_icmp_le (tgt := 51) dX1_let_43 (by decide) ?_ ?_
    · refine BS_iload_n dX1_let_51 rfl ?_
      exact BS_ireturn dX1_let_52 rfl
    · refine BS_iload dX1_let_46 ?_
      refine BS_goto (tgt := 52) dX1_let_48 (by decide) ?_
      exact BS_ireturn dX1_let_52 rfl
  · refine BS_aload_n dX1_let_13 rfl ?_
    refine BS_iconst dX1_let_14 (by decide) ?_
    refine BS_call (run_V dX1_let_15 con_X1_no (ci := 0) rfl rfl q502 q504 qs3 q136 q505 pd_X1_no ⟨Nat.le_of_ble_eq_true rfl, Nat.le_of_ble_eq_true rfl⟩) BV_no ?_
    exact BS_ireturn dX1_let_18 rfl
noncomputable def F_X1_let : FF := mk_F 5 F_X1_let_b0
theorem con_X1_let : Con_ yX1_let (ws_ yX1_let cX1_let 5 (some .int)) 3 65 F_X1_let := Con_of (by decide +kernel) bs_X1_let_b0
/-- LongerHalf.worth(I)I -/
abbrev M_X1_worth : MM := (yX1_worth, cX1_worth, (some .int), 2, 43, 2, [])
theorem pd_X1_worth : (yX1_worth.cls ≠ "java/lang/invoke/MethodHandle" ∧ yX1_worth.cls ≠ "java/lang/invoke/VarHandle") ∧ (parseMethodDescriptor yX1_worth.desc).map (fun d => d.parameters.length) = some 1 := ⟨⟨by decide +kernel, by decide +kernel⟩, by decide +kernel⟩
noncomputable def F_X1_worth_b0 : KK OO :=
  op_ald 0 <| op_call 1 (f_kd 10 F_X1_anew) kx_no <| op_ald 0 <| op_ild 1 <| op_call 2 (f_kd 10 F_X1_isPerson) kx_no <| op_ieq (op_ald 0 <| op_push (.int 1) <| op_call 2 (f_kd 10 F_X1_no) kx_no <| op_iret .int) (op_ald 0 <| op_ild 1 <| op_call 2 (f_kd 10 F_X1_worthOf) kx_no <| op_iret .int)
theorem bs_X1_worth_b0 : B_S M_X1_worth 0 (F_X1_worth_b0) z_O k_O := by
  unfold F_X1_worth_b0
  refine BS_aload_n dX1_worth_0 rfl ?_
  refine BS_call (run_V dX1_worth_1 con_X1_anew (ci := 0) rfl rfl q495 q497 qs2 q136 q498 pd_X1_anew ⟨Nat.le_of_ble_eq_true rfl, Nat.le_of_ble_eq_true rfl⟩) BV_no ?_
  refine BS_aload_n dX1_worth_4 rfl ?_
  refine BS_iload_n dX1_worth_5 rfl ?_
  refine BS_call (run_V dX1_worth_6 con_X1_isPerson (ci := 0) rfl rfl q1126 q1128 qs31 q136 q1129 pd_X1_isPerson ⟨Nat.le_of_ble_eq_true rfl, Nat.le_of_ble_eq_true rfl⟩) BV_no ?_
  refine BS_if_eq (tgt := 20) dX1_worth_9 (by decide) ?_ ?_
  · refine BS_aload_n dX1_worth_20 rfl ?_
    refine BS_iconst dX1_worth_21 (by decide) ?_
    refine BS_call (run_V dX1_worth_22 con_X1_no (ci := 0) rfl rfl q502 q504 qs3 q136 q505 pd_X1_no ⟨Nat.le_of_ble_eq_true rfl, Nat.le_of_ble_eq_true rfl⟩) BV_no ?_
    exact BS_ireturn dX1_worth_25 rfl
  · refine BS_aload_n dX1_worth_12 rfl ?_
    refine BS_iload_n dX1_worth_13 rfl ?_
    refine BS_call (run_V dX1_worth_14 con_X1_worthOf (ci := 0) rfl rfl q1472 q1474 qs50 q136 q1475 pd_X1_worthOf ⟨Nat.le_of_ble_eq_true rfl, Nat.le_of_ble_eq_true rfl⟩) BV_no ?_
    refine BS_goto (tgt := 25) dX1_worth_17 (by decide) ?_
    exact BS_ireturn dX1_worth_25 rfl
noncomputable def F_X1_worth : FF := mk_F 2 F_X1_worth_b0
theorem con_X1_worth : Con_ yX1_worth (ws_ yX1_worth cX1_worth 2 (some .int)) 2 43 F_X1_worth := Con_of (by decide +kernel) bs_X1_worth_b0
/-- LongerHalf.tryKnob(IIII)V -/
abbrev M_X1_tryKnob : MM := (yX1_tryKnob, cX1_tryKnob, none, 6, 134, 6, [])
theorem pd_X1_tryKnob : (yX1_tryKnob.cls ≠ "java/lang/invoke/MethodHandle" ∧ yX1_tryKnob.cls ≠ "java/lang/invoke/VarHandle") ∧ (parseMethodDescriptor yX1_tryKnob.desc).map (fun d => d.parameters.length) = some 4 := ⟨⟨by decide +kernel, by decide +kernel⟩, by decide +kernel⟩
noncomputable def F_X1_tryKnob_b108 : KK OO :=
  op_i2 (fun x y => x <<< (y &&& 31)) <| op_i2 (fun x y => x ||| y) <| op_pfi .int [10] 18 <| op_vret
theorem bs_X1_tryKnob_b108 : B_S M_X1_tryKnob 108 (F_X1_tryKnob_b108) z_O k_O := by
  unfold F_X1_tryKnob_b108
  refine BS_ishl dX1_tryKnob_108 ?_
  refine BS_ior dX1_tryKnob_109 ?_
  refine BS_pfi p_X1_366 (fun h => by cases h) dX1_tryKnob_110 ?_
  exact BS_return dX1_tryKnob_113 rfl
noncomputable def F_X1_tryKnob_b87 : KK OO :=
  op_i2 (fun x y => x + y) <| op_pfi .int [10] 17 <| op_ald 0 <| op_dup <| op_gfi [10] 18 <| op_push (.int 1) <| op_ild 5 <| op_ine (op_ild 4 <| F_X1_tryKnob_b108) (op_ild 3 <| F_X1_tryKnob_b108)
theorem bs_X1_tryKnob_b87 : B_S M_X1_tryKnob 87 (F_X1_tryKnob_b87) z_O k_O := by
  unfold F_X1_tryKnob_b87
  refine BS_iadd dX1_tryKnob_87 ?_
  refine BS_pfi p_X1_363 (fun h => by cases h) dX1_tryKnob_88 ?_
  refine BS_aload_n dX1_tryKnob_91 rfl ?_
  refine BS_dup dX1_tryKnob_92 ?_
  refine BS_gfi f_X1_366 dX1_tryKnob_93 ?_
  refine BS_iconst dX1_tryKnob_96 (by decide) ?_
  refine BS_iload dX1_tryKnob_97 ?_
  refine BS_if_ne (tgt := 106) dX1_tryKnob_99 (by decide) ?_ ?_
  · refine BS_iload dX1_tryKnob_106 ?_
    exact bs_X1_tryKnob_b108
  · refine BS_iload_n dX1_tryKnob_102 rfl ?_
    refine BS_goto (tgt := 108) dX1_tryKnob_103 (by decide) ?_
    exact bs_X1_tryKnob_b108
noncomputable def F_X1_tryKnob_b0 : KK OO :=
  op_ald 0 <| op_ild 2 <| op_call 2 (f_kd 10 F_X1_lay) kx_no <| op_ald 0 <| op_gfr [10] 3 <| op_gfr [17] 69 <| op_ild 3 <| op_aald 6 <| op_ald 0 <| op_gfr [10] 3 <| op_gfr [17] 69 <| op_ild 4 <| op_aald 6 <| op_call 3 (f_kd 14 F_X5_asTold) kx_no <| op_ald 0 <| op_gfr [10] 12 <| op_call 1 (f_kd 14 F_X5_comes) kx_no <| op_ist 5 <| op_ild 5 <| op_push (.int 2) <| op_cge (op_vret) (op_ald 0 <| op_gfr [10] 12 <| op_gfi [14] 53 <| op_ald 0 <| op_gfr [10] 3 <| op_gfr [17] 70 <| op_ild 1 <| op_iald 1 <| op_cne (op_vret) (op_ald 0 <| op_gfr [10] 12 <| op_gfi [14] 54 <| op_ald 0 <| op_gfr [10] 3 <| op_gfr [17] 71 <| op_ild 1 <| op_iald 1 <| op_ceq (op_ald 0 <| op_dup <| op_gfi [10] 17 <| op_push (.int 1) <| F_X1_tryKnob_b87) (op_vret)))
theorem bs_X1_tryKnob_b0 : B_S M_X1_tryKnob 0 (F_X1_tryKnob_b0) z_O k_O := by
  unfold F_X1_tryKnob_b0
  refine BS_aload_n dX1_tryKnob_0 rfl ?_
  refine BS_iload_n dX1_tryKnob_1 rfl ?_
  refine BS_call (run_V dX1_tryKnob_2 con_X1_lay (ci := 0) rfl rfl q1149 q1151 qs32 q136 q1152 pd_X1_lay ⟨Nat.le_of_ble_eq_true rfl, Nat.le_of_ble_eq_true rfl⟩) BV_no ?_
  refine BS_aload_n dX1_tryKnob_5 rfl ?_
  refine BS_gfr f_X1_108 dX1_tryKnob_6 ?_
  refine BS_gfr f_X1_176 dX1_tryKnob_9 ?_
  refine BS_iload_n dX1_tryKnob_12 rfl ?_
  refine BS_aaload dX1_tryKnob_13 (by decide) (by decide) (C := "LongerHalf$Person") rfl ?_
  refine BS_aload_n dX1_tryKnob_14 rfl ?_
  refine BS_gfr f_X1_108 dX1_tryKnob_15 ?_
  refine BS_gfr f_X1_176 dX1_tryKnob_18 ?_
  refine BS_iload dX1_tryKnob_21 ?_
  refine BS_aaload dX1_tryKnob_23 (by decide) (by decide) (C := "LongerHalf$Person") rfl ?_
  refine BS_call (run_V dX1_tryKnob_24 con_X5_asTold (ci := 4) rfl rfl q1345 q1346 q1347 q143 q1348 pd_X5_asTold ⟨Nat.le_of_ble_eq_true rfl, Nat.le_of_ble_eq_true rfl⟩) BV_no ?_
  refine BS_aload_n dX1_tryKnob_27 rfl ?_
  refine BS_gfr f_X1_46 dX1_tryKnob_28 ?_
  refine BS_call (run_V dX1_tryKnob_31 con_X5_comes (ci := 4) rfl rfl q1222 q1223 q1224 q143 q1225 pd_X5_comes ⟨Nat.le_of_ble_eq_true rfl, Nat.le_of_ble_eq_true rfl⟩) BV_no ?_
  refine BS_istore dX1_tryKnob_34 (Nat.le_of_ble_eq_true rfl) ?_
  refine BS_iload dX1_tryKnob_36 ?_
  refine BS_iconst dX1_tryKnob_38 (by decide) ?_
  refine BS_icmp_ge (tgt := 80) dX1_tryKnob_39 (by decide) ?_ ?_
  · exact BS_return dX1_tryKnob_80 rfl
  · refine BS_aload_n dX1_tryKnob_42 rfl ?_
    refine BS_gfr f_X1_46 dX1_tryKnob_43 ?_
    refine BS_gfi f_X1_240 dX1_tryKnob_46 ?_
    refine BS_aload_n dX1_tryKnob_49 rfl ?_
    refine BS_gfr f_X1_108 dX1_tryKnob_50 ?_
    refine BS_gfr f_X1_373 dX1_tryKnob_53 ?_
    refine BS_iload_n dX1_tryKnob_56 rfl ?_
    refine BS_iaload dX1_tryKnob_57 ?_
    refine BS_icmp_ne (tgt := 80) dX1_tryKnob_58 (by decide) ?_ ?_
    · exact BS_return dX1_tryKnob_80 rfl
    · refine BS_aload_n dX1_tryKnob_61 rfl ?_
      refine BS_gfr f_X1_46 dX1_tryKnob_62 ?_
      refine BS_gfi f_X1_243 dX1_tryKnob_65 ?_
      refine BS_aload_n dX1_tryKnob_68 rfl ?_
      refine BS_gfr f_X1_108 dX1_tryKnob_69 ?_
      refine BS_gfr f_X1_376 dX1_tryKnob_72 ?_
      refine BS_iload_n dX1_tryKnob_75 rfl ?_
      refine BS_iaload dX1_tryKnob_76 ?_
      refine BS_icmp_eq (tgt := 81) dX1_tryKnob_77 (by decide) ?_ ?_
      · refine BS_aload_n dX1_tryKnob_81 rfl ?_
        refine BS_dup dX1_tryKnob_82 ?_
        refine BS_gfi f_X1_363 dX1_tryKnob_83 ?_
        refine BS_iconst dX1_tryKnob_86 (by decide) ?_
        exact bs_X1_tryKnob_b87
      · exact BS_return dX1_tryKnob_80 rfl
noncomputable def F_X1_tryKnob : FF := mk_F 6 F_X1_tryKnob_b0
theorem con_X1_tryKnob : Con_ yX1_tryKnob (ws_ yX1_tryKnob cX1_tryKnob 6 none) 6 134 F_X1_tryKnob := Con_of (by decide +kernel) bs_X1_tryKnob_b0
/-- LongerHalf.seekKnob(I)Z -/
abbrev M_X1_seekKnob : MM := (yX1_seekKnob, cX1_seekKnob, (some .boolean), 7, 159, 5, [])
theorem pd_X1_seekKnob : (yX1_seekKnob.cls ≠ "java/lang/invoke/MethodHandle" ∧ yX1_seekKnob.cls ≠ "java/lang/invoke/VarHandle") ∧ (parseMethodDescriptor yX1_seekKnob.desc).map (fun d => d.parameters.length) = some 1 := ⟨⟨by decide +kernel, by decide +kernel⟩, by decide +kernel⟩
noncomputable def F_X1_seekKnob_l65 : KK (L_S ⊕ (L_S ⊕ (L_S ⊕ OO))) :=
  op_ild 4 <| op_ald 0 <| op_gfr [10] 3 <| op_gfi [17] 78 <| op_cge (op_exit <| op_iinc 3 1 <| op_back) (op_ild 3 <| op_ild 4 <| op_ceq (op_iinc 4 1 <| op_back) (op_ald 0 <| op_ild 1 <| op_ild 2 <| op_ild 3 <| op_ild 4 <| op_call 5 (f_kd 10 F_X1_tryKnob) kx_no <| op_iinc 4 1 <| op_back))
theorem bs_X1_seekKnob_l65 : B_S M_X1_seekKnob 65 (F_X1_seekKnob_l65) (z_L (z_L (z_L z_O))) (k_L 65 (k_L 51 (k_L 38 k_O))) := by
  unfold F_X1_seekKnob_l65
  refine BS_iload dX1_seekKnob_65 ?_
  refine BS_aload_n dX1_seekKnob_67 rfl ?_
  refine BS_gfr f_X1_108 dX1_seekKnob_68 ?_
  refine BS_gfi f_X1_133 dX1_seekKnob_71 ?_
  refine BS_icmp_ge (tgt := 98) dX1_seekKnob_74 (by decide) ?_ ?_
  · refine BS_exit ?_
    refine BS_iinc dX1_seekKnob_98 (by decide) (Nat.le_of_ble_eq_true rfl) ?_
    refine BS_goto (tgt := 51) dX1_seekKnob_101 (by decide) ?_
    exact BS_back
  · refine BS_iload_n dX1_seekKnob_77 rfl ?_
    refine BS_iload dX1_seekKnob_78 ?_
    refine BS_icmp_eq (tgt := 92) dX1_seekKnob_80 (by decide) ?_ ?_
    · refine BS_iinc dX1_seekKnob_92 (by decide) (Nat.le_of_ble_eq_true rfl) ?_
      refine BS_goto (tgt := 65) dX1_seekKnob_95 (by decide) ?_
      exact BS_back
    · refine BS_aload_n dX1_seekKnob_83 rfl ?_
      refine BS_iload_n dX1_seekKnob_84 rfl ?_
      refine BS_iload_n dX1_seekKnob_85 rfl ?_
      refine BS_iload_n dX1_seekKnob_86 rfl ?_
      refine BS_iload dX1_seekKnob_87 ?_
      refine BS_call (run_V dX1_seekKnob_89 con_X1_tryKnob (ci := 0) rfl rfl q1488 q1490 qs52 q136 q1491 pd_X1_tryKnob ⟨Nat.le_of_ble_eq_true rfl, Nat.le_of_ble_eq_true rfl⟩) BV_no ?_
      refine BS_iinc dX1_seekKnob_92 (by decide) (Nat.le_of_ble_eq_true rfl) ?_
      refine BS_goto (tgt := 65) dX1_seekKnob_95 (by decide) ?_
      exact BS_back
noncomputable def F_X1_seekKnob_b65 : KK (L_S ⊕ (L_S ⊕ OO)) := op_loop (F_X1_seekKnob_l65)
theorem bs_X1_seekKnob_b65 : B_S M_X1_seekKnob 65 (F_X1_seekKnob_b65) (z_L (z_L z_O)) (k_L 51 (k_L 38 k_O)) := BS_loop (bs_X1_seekKnob_l65)
noncomputable def F_X1_seekKnob_l51 : KK (L_S ⊕ (L_S ⊕ OO)) :=
  op_ild 3 <| op_ald 0 <| op_gfr [10] 3 <| op_gfi [17] 78 <| op_cge (op_exit <| op_iinc 2 1 <| op_back) (op_push (.int 0) <| op_ist 4 <| F_X1_seekKnob_b65)
theorem bs_X1_seekKnob_l51 : B_S M_X1_seekKnob 51 (F_X1_seekKnob_l51) (z_L (z_L z_O)) (k_L 51 (k_L 38 k_O)) := by
  unfold F_X1_seekKnob_l51
  refine BS_iload_n dX1_seekKnob_51 rfl ?_
  refine BS_aload_n dX1_seekKnob_52 rfl ?_
  refine BS_gfr f_X1_108 dX1_seekKnob_53 ?_
  refine BS_gfi f_X1_133 dX1_seekKnob_56 ?_
  refine BS_icmp_ge (tgt := 104) dX1_seekKnob_59 (by decide) ?_ ?_
  · refine BS_exit ?_
    refine BS_iinc dX1_seekKnob_104 (by decide) (Nat.le_of_ble_eq_true rfl) ?_
    refine BS_goto (tgt := 38) dX1_seekKnob_107 (by decide) ?_
    exact BS_back
  · refine BS_iconst dX1_seekKnob_62 (by decide) ?_
    refine BS_istore dX1_seekKnob_63 (Nat.le_of_ble_eq_true rfl) ?_
    exact bs_X1_seekKnob_b65
noncomputable def F_X1_seekKnob_b51 : KK (L_S ⊕ OO) := op_loop (F_X1_seekKnob_l51)
theorem bs_X1_seekKnob_b51 : B_S M_X1_seekKnob 51 (F_X1_seekKnob_b51) (z_L z_O) (k_L 38 k_O) := BS_loop (bs_X1_seekKnob_l51)
noncomputable def F_X1_seekKnob_l38 : KK (L_S ⊕ OO) :=
  op_ild 2 <| op_ald 0 <| op_gfr [10] 3 <| op_gfi [17] 77 <| op_cge (op_exit <| op_push (.int 1) <| op_iret .boolean) (op_push (.int 0) <| op_ist 3 <| F_X1_seekKnob_b51)
theorem bs_X1_seekKnob_l38 : B_S M_X1_seekKnob 38 (F_X1_seekKnob_l38) (z_L z_O) (k_L 38 k_O) := by
  unfold F_X1_seekKnob_l38
  refine BS_iload_n dX1_seekKnob_38 rfl ?_
  refine BS_aload_n dX1_seekKnob_39 rfl ?_
  refine BS_gfr f_X1_108 dX1_seekKnob_40 ?_
  refine BS_gfi f_X1_128 dX1_seekKnob_43 ?_
  refine BS_icmp_ge (tgt := 110) dX1_seekKnob_46 (by decide) ?_ ?_
  · refine BS_exit ?_
    refine BS_iconst dX1_seekKnob_110 (by decide) ?_
    exact BS_ireturn dX1_seekKnob_111 rfl
  · refine BS_iconst dX1_seekKnob_49 (by decide) ?_
    refine BS_istore_n dX1_seekKnob_50 rfl (Nat.le_of_ble_eq_true rfl) ?_
    exact bs_X1_seekKnob_b51
noncomputable def F_X1_seekKnob_b38 : KK OO := op_loop (F_X1_seekKnob_l38)
theorem bs_X1_seekKnob_b38 : B_S M_X1_seekKnob 38 (F_X1_seekKnob_b38) z_O k_O := BS_loop (bs_X1_seekKnob_l38)
noncomputable def F_X1_seekKnob_b0 : KK OO :=
  op_ald 0 <| op_gfr [10] 3 <| op_ifn (op_push (.int 0) <| op_iret .boolean) (op_ild 1 <| op_push (.int 0) <| op_ald 0 <| op_gfr [10] 3 <| op_gfi [17] 82 <| op_push (.int 1) <| op_i2 (fun x y => x - y) <| op_call 3 F_X1_in kx_no <| op_ine (op_ald 0 <| op_push (.int 0) <| op_pfi .int [10] 17 <| op_ald 0 <| op_push (.int 0) <| op_pfi .int [10] 18 <| op_push (.int 0) <| op_ist 2 <| F_X1_seekKnob_b38) (op_push (.int 0) <| op_iret .boolean))
theorem bs_X1_seekKnob_b0 : B_S M_X1_seekKnob 0 (F_X1_seekKnob_b0) z_O k_O := by
  unfold F_X1_seekKnob_b0
  refine BS_aload_n dX1_seekKnob_0 rfl ?_
  refine BS_gfr f_X1_108 dX1_seekKnob_1 ?_
  refine BS_ifnull (tgt := 24) dX1_seekKnob_4 (by decide) ?_ ?_
  · refine BS_iconst dX1_seekKnob_24 (by decide) ?_
    exact BS_ireturn dX1_seekKnob_25 rfl
  · refine BS_iload_n dX1_seekKnob_7 rfl ?_
    refine BS_iconst dX1_seekKnob_8 (by decide) ?_
    refine BS_aload_n dX1_seekKnob_9 rfl ?_
    refine BS_gfr f_X1_108 dX1_seekKnob_10 ?_
    refine BS_gfi f_X1_360 dX1_seekKnob_13 ?_
    refine BS_iconst dX1_seekKnob_16 (by decide) ?_
    refine BS_isub dX1_seekKnob_17 ?_
    refine BS_call (run_S dX1_seekKnob_18 con_X1_in q499 q500 q136 q501 pd_X1_in ⟨Nat.le_of_ble_eq_true rfl, Nat.le_of_ble_eq_true rfl⟩) BV_no ?_
    refine BS_if_ne (tgt := 26) dX1_seekKnob_21 (by decide) ?_ ?_
    · refine BS_aload_n dX1_seekKnob_26 rfl ?_
      refine BS_iconst dX1_seekKnob_27 (by decide) ?_
      refine BS_pfi p_X1_363 (fun h => by cases h) dX1_seekKnob_28 ?_
      refine BS_aload_n dX1_seekKnob_31 rfl ?_
      refine BS_iconst dX1_seekKnob_32 (by decide) ?_
      refine BS_pfi p_X1_366 (fun h => by cases h) dX1_seekKnob_33 ?_
      refine BS_iconst dX1_seekKnob_36 (by decide) ?_
      refine BS_istore_n dX1_seekKnob_37 rfl (Nat.le_of_ble_eq_true rfl) ?_
      exact bs_X1_seekKnob_b38
    · refine BS_iconst dX1_seekKnob_24 (by decide) ?_
      exact BS_ireturn dX1_seekKnob_25 rfl
noncomputable def F_X1_seekKnob : FF := mk_F 5 F_X1_seekKnob_b0
theorem con_X1_seekKnob : Con_ yX1_seekKnob (ws_ yX1_seekKnob cX1_seekKnob 5 (some .boolean)) 7 159 F_X1_seekKnob := Con_of (by decide +kernel) bs_X1_seekKnob_b0
/-- LongerHalf.knob(I)I -/
abbrev M_X1_knob : MM := (yX1_knob, cX1_knob, (some .int), 8, 183, 2, [])
theorem pd_X1_knob : (yX1_knob.cls ≠ "java/lang/invoke/MethodHandle" ∧ yX1_knob.cls ≠ "java/lang/invoke/VarHandle") ∧ (parseMethodDescriptor yX1_knob.desc).map (fun d => d.parameters.length) = some 1 := ⟨⟨by decide +kernel, by decide +kernel⟩, by decide +kernel⟩
noncomputable def F_X1_knob_b0 : KK OO :=
  op_ald 0 <| op_call 1 (f_kd 10 F_X1_anew) kx_no <| op_ald 0 <| op_ild 1 <| op_call 2 (f_kd 10 F_X1_seekKnob) kx_no <| op_ieq (op_ald 0 <| op_push (.int 1) <| op_call 2 (f_kd 10 F_X1_no) kx_no <| op_iret .int) (op_ald 0 <| op_gfi [10] 17 <| op_iret .int)
theorem bs_X1_knob_b0 : B_S M_X1_knob 0 (F_X1_knob_b0) z_O k_O := by
  unfold F_X1_knob_b0
  refine BS_aload_n dX1_knob_0 rfl ?_
  refine BS_call (run_V dX1_knob_1 con_X1_anew (ci := 0) rfl rfl q495 q497 qs2 q136 q498 pd_X1_anew ⟨Nat.le_of_ble_eq_true rfl, Nat.le_of_ble_eq_true rfl⟩) BV_no ?_
  refine BS_aload_n dX1_knob_4 rfl ?_
  refine BS_iload_n dX1_knob_5 rfl ?_
  refine BS_call (run_V dX1_knob_6 con_X1_seekKnob (ci := 0) rfl rfl q1484 q1486 qs51 q136 q1487 pd_X1_seekKnob ⟨Nat.le_of_ble_eq_true rfl, Nat.le_of_ble_eq_true rfl⟩) BV_no ?_
  refine BS_if_eq (tgt := 19) dX1_knob_9 (by decide) ?_ ?_
  · refine BS_aload_n dX1_knob_19 rfl ?_
    refine BS_iconst dX1_knob_20 (by decide) ?_
    refine BS_call (run_V dX1_knob_21 con_X1_no (ci := 0) rfl rfl q502 q504 qs3 q136 q505 pd_X1_no ⟨Nat.le_of_ble_eq_true rfl, Nat.le_of_ble_eq_true rfl⟩) BV_no ?_
    exact BS_ireturn dX1_knob_24 rfl
  · refine BS_aload_n dX1_knob_12 rfl ?_
    refine BS_gfi f_X1_363 dX1_knob_13 ?_
    refine BS_goto (tgt := 24) dX1_knob_16 (by decide) ?_
    exact BS_ireturn dX1_knob_24 rfl
noncomputable def F_X1_knob : FF := mk_F 2 F_X1_knob_b0
theorem con_X1_knob : Con_ yX1_knob (ws_ yX1_knob cX1_knob 2 (some .int)) 8 183 F_X1_knob := Con_of (by decide +kernel) bs_X1_knob_b0
/-- LongerHalf.owners(I)I -/
abbrev M_X1_owners : MM := (yX1_owners, cX1_owners, (some .int), 8, 183, 2, [])
theorem pd_X1_owners : (yX1_owners.cls ≠ "java/lang/invoke/MethodHandle" ∧ yX1_owners.cls ≠ "java/lang/invoke/VarHandle") ∧ (parseMethodDescriptor yX1_owners.desc).map (fun d => d.parameters.length) = some 1 := ⟨⟨by decide +kernel, by decide +kernel⟩, by decide +kernel⟩
noncomputable def F_X1_owners_b0 : KK OO :=
  op_ald 0 <| op_call 1 (f_kd 10 F_X1_anew) kx_no <| op_ald 0 <| op_ild 1 <| op_call 2 (f_kd 10 F_X1_seekKnob) kx_no <| op_ieq (op_ald 0 <| op_push (.int 1) <| op_call 2 (f_kd 10 F_X1_no) kx_no <| op_iret .int) (op_ald 0 <| op_gfi [10] 18 <| op_iret .int)
theorem bs_X1_owners_b0 : B_S M_X1_owners 0 (F_X1_owners_b0) z_O k_O := by
  unfold F_X1_owners_b0
  refine BS_aload_n dX1_owners_0 rfl ?_
  refine BS_call (run_V dX1_owners_1 con_X1_anew (ci := 0) rfl rfl q495 q497 qs2 q136 q498 pd_X1_anew ⟨Nat.le_of_ble_eq_true rfl, Nat.le_of_ble_eq_true rfl⟩) BV_no ?_
  refine BS_aload_n dX1_owners_4 rfl ?_
  refine BS_iload_n dX1_owners_5 rfl ?_
  refine BS_call (run_V dX1_owners_6 con_X1_seekKnob (ci := 0) rfl rfl q1484 q1486 qs51 q136 q1487 pd_X1_seekKnob ⟨Nat.le_of_ble_eq_true rfl, Nat.le_of_ble_eq_true rfl⟩) BV_no ?_
  refine BS_if_eq (tgt := 19) dX1_owners_9 (by decide) ?_ ?_
  · refine BS_aload_n dX1_owners_19 rfl ?_
    refine BS_iconst dX1_owners_20 (by decide) ?_
    refine BS_call (run_V dX1_owners_21 con_X1_no (ci := 0) rfl rfl q502 q504 qs3 q136 q505 pd_X1_no ⟨Nat.le_of_ble_eq_true rfl, Nat.le_of_ble_eq_true rfl⟩) BV_no ?_
    exact BS_ireturn dX1_owners_24 rfl
  · refine BS_aload_n dX1_owners_12 rfl ?_
    refine BS_gfi f_X1_366 dX1_owners_13 ?_
    refine BS_goto (tgt := 24) dX1_owners_16 (by decide) ?_
    exact BS_ireturn dX1_owners_24 rfl
noncomputable def F_X1_owners : FF := mk_F 2 F_X1_owners_b0
theorem con_X1_owners : Con_ yX1_owners (ws_ yX1_owners cX1_owners 2 (some .int)) 8 183 F_X1_owners := Con_of (by decide +kernel) bs_X1_owners_b0
/-- LongerHalf.drawFlaw(LLongerHalf$Drawer;)V -/
abbrev M_X1_drawFlaw : MM := (yX1_drawFlaw, cX1_drawFlaw, none, 1, 22, 4, [])
theorem pd_X1_drawFlaw : (yX1_drawFlaw.cls ≠ "java/lang/invoke/MethodHandle" ∧ yX1_drawFlaw.cls ≠ "java/lang/invoke/VarHandle") ∧ (parseMethodDescriptor yX1_drawFlaw.desc).map (fun d => d.parameters.length) = some 1 := ⟨⟨by decide +kernel, by decide +kernel⟩, by decide +kernel⟩
noncomputable def F_X1_drawFlaw_b74 : KK OO :=
  op_call 3 (f_kd 14 F_X5_flaw) kx_no <| op_vret
theorem bs_X1_drawFlaw_b74 : B_S M_X1_drawFlaw 74 (F_X1_drawFlaw_b74) z_O k_O := by
  unfold F_X1_drawFlaw_b74
  refine BS_call (run_V dX1_drawFlaw_74 con_X5_flaw (ci := 4) rfl rfl q1248 q1249 q1250 q143 q1251 pd_X5_flaw ⟨Nat.le_of_ble_eq_true rfl, Nat.le_of_ble_eq_true rfl⟩) BV_no ?_
  exact BS_return dX1_drawFlaw_77 rfl
noncomputable def F_X1_drawFlaw_b54 : KK OO :=
  op_ild 3 <| op_ald 2 <| op_push (.int 0) <| op_call 2 (f_or (f_kd 18 F_X11_size) (f_or (f_kd 19 F_X11_size) (f_kd 20 F_X11_size))) kx_no <| op_cge (op_ild 3 <| op_ald 2 <| op_push (.int 0) <| op_call 2 (f_or (f_kd 18 F_X11_size) (f_or (f_kd 19 F_X11_size) (f_kd 20 F_X11_size))) kx_no <| op_i2 (fun x y => x - y) <| F_X1_drawFlaw_b74) (op_ild 3 <| F_X1_drawFlaw_b74)
theorem bs_X1_drawFlaw_b54 : B_S M_X1_drawFlaw 54 (F_X1_drawFlaw_b54) z_O k_O := by
  unfold F_X1_drawFlaw_b54
  refine BS_iload_n dX1_drawFlaw_54 rfl ?_
  refine BS_aload_n dX1_drawFlaw_55 rfl ?_
  refine BS_iconst dX1_drawFlaw_56 (by decide) ?_
  refine BS_call ((run_or (run_U dX1_drawFlaw_57 con_X11_size (ci := 8) rfl q1106 q888 q891 q887 q154 q892 (Or.inl ⟨_, _, _, q887, q892⟩) pu_Bo_size ⟨Nat.le_of_ble_eq_true rfl, Nat.le_of_ble_eq_true rfl⟩) (run_or (run_U dX1_drawFlaw_57 con_X11_size (ci := 9) rfl q1106 q888 q890 q887 q154 q892 (Or.inl ⟨_, _, _, q887, q892⟩) pu_Bo_size ⟨Nat.le_of_ble_eq_true rfl, Nat.le_of_ble_eq_true rfl⟩) (run_U dX1_drawFlaw_57 con_X11_size (ci := 10) rfl q1106 q888 q889 q887 q154 q892 (Or.inl ⟨_, _, _, q887, q892⟩) pu_Bo_size ⟨Nat.le_of_ble_eq_true rfl, Nat.le_of_ble_eq_true rfl⟩)))) BV_no ?_
  refine BS_icmp_ge (tgt := 67) dX1_drawFlaw_60 (by decide) ?_ ?_
  · refine BS_iload_n dX1_drawFlaw_67 rfl ?_
    refine BS_aload_n dX1_drawFlaw_68 rfl ?_
    refine BS_iconst dX1_drawFlaw_69 (by decide) ?_
    refine BS_call ((run_or (run_U dX1_drawFlaw_70 con_X11_size (ci := 8) rfl q1106 q888 q891 q887 q154 q892 (Or.inl ⟨_, _, _, q887, q892⟩) pu_Bo_size ⟨Nat.le_of_ble_eq_true rfl, Nat.le_of_ble_eq_true rfl⟩) (run_or (run_U dX1_drawFlaw_70 con_X11_size (ci := 9) rfl q1106 q888 q890 q887 q154 q892 (Or.inl ⟨_, _, _, q887, q892⟩) pu_Bo_size ⟨Nat.le_of_ble_eq_true rfl, Nat.le_of_ble_eq_true rfl⟩) (run_U dX1_drawFlaw_70 con_X11_size (ci := 10) rfl q1106 q888 q889 q887 q154 q892 (Or.inl ⟨_, _, _, q887, q892⟩) pu_Bo_size ⟨Nat.le_of_ble_eq_true rfl, Nat.le_of_ble_eq_true rfl⟩)))) BV_no ?_
    refine BS_isub dX1_drawFlaw_73 ?_
    exact bs_X1_drawFlaw_b74
  · refine BS_iload_n dX1_drawFlaw_63 rfl ?_
    refine BS_goto (tgt := 74) dX1_drawFlaw_64 (by decide) ?_
    exact bs_X1_drawFlaw_b74
noncomputable def F_X1_drawFlaw_b0 : KK OO :=
  op_ald 1 <| op_call 1 (f_kd 13 F_X4_draw) kx_no <| op_push (.int 100) <| op_i2d (fun x y => x - x / y * y) <| op_ald 0 <| op_gfr [10] 3 <| op_gfi [17] 76 <| op_clt (op_ald 0 <| op_gfr [10] 12 <| op_gfr [14] 47 <| op_ast 2 <| op_ald 1 <| op_call 1 (f_kd 13 F_X4_draw) kx_no <| op_ald 2 <| op_call 1 (f_or (f_kd 18 F_X11_places) (f_or (f_kd 19 F_X11_places) (f_kd 20 F_X11_places))) kx_no <| op_i2d (fun x y => x - x / y * y) <| op_ist 3 <| op_ald 0 <| op_gfr [10] 12 <| op_ild 3 <| op_ald 2 <| op_push (.int 0) <| op_call 2 (f_or (f_kd 18 F_X11_size) (f_or (f_kd 19 F_X11_size) (f_kd 20 F_X11_size))) kx_no <| op_cge (op_push (.int 1) <| F_X1_drawFlaw_b54) (op_push (.int 0) <| F_X1_drawFlaw_b54)) (op_vret)
theorem bs_X1_drawFlaw_b0 : B_S M_X1_drawFlaw 0 (F_X1_drawFlaw_b0) z_O k_O := by
  unfold F_X1_drawFlaw_b0
  refine BS_aload_n dX1_drawFlaw_0 rfl ?_
  refine BS_call (run_V dX1_drawFlaw_1 con_X4_draw (ci := 3) rfl rfl q1505 q1506 q1507 q142 q1508 pd_X4_draw ⟨Nat.le_of_ble_eq_true rfl, Nat.le_of_ble_eq_true rfl⟩) BV_no ?_
  refine BS_bipush dX1_drawFlaw_4 (by decide) ?_
  refine BS_irem dX1_drawFlaw_6 ?_
  refine BS_aload_n dX1_drawFlaw_7 rfl ?_
  refine BS_gfr f_X1_108 dX1_drawFlaw_8 ?_
  refine BS_gfi f_X1_385 dX1_drawFlaw_11 ?_
  refine BS_icmp_lt (tgt := 18) dX1_drawFlaw_14 (by decide) ?_ ?_
  · refine BS_aload_n dX1_drawFlaw_18 rfl ?_
    refine BS_gfr f_X1_46 dX1_drawFlaw_19 ?_
    refine BS_gfr f_X1_387 dX1_drawFlaw_22 ?_
    refine BS_astore_n dX1_drawFlaw_25 rfl (Nat.le_of_ble_eq_true rfl) ?_
    refine BS_aload_n dX1_drawFlaw_26 rfl ?_
    refine BS_call (run_V dX1_drawFlaw_27 con_X4_draw (ci := 3) rfl rfl q1505 q1506 q1507 q142 q1508 pd_X4_draw ⟨Nat.le_of_ble_eq_true rfl, Nat.le_of_ble_eq_true rfl⟩) BV_no ?_
    refine BS_aload_n dX1_drawFlaw_30 rfl ?_
    refine BS_call ((run_or (run_U dX1_drawFlaw_31 con_X11_places (ci := 8) rfl q1514 q1263 q1266 q1262 q154 q1267 (Or.inl ⟨_, _, _, q1262, q1267⟩) pu_Bo_places ⟨Nat.le_of_ble_eq_true rfl, Nat.le_of_ble_eq_true rfl⟩) (run_or (run_U dX1_drawFlaw_31 con_X11_places (ci := 9) rfl q1514 q1263 q1265 q1262 q154 q1267 (Or.inl ⟨_, _, _, q1262, q1267⟩) pu_Bo_places ⟨Nat.le_of_ble_eq_true rfl, Nat.le_of_ble_eq_true rfl⟩) (run_U dX1_drawFlaw_31 con_X11_places (ci := 10) rfl q1514 q1263 q1264 q1262 q154 q1267 (Or.inl ⟨_, _, _, q1262, q1267⟩) pu_Bo_places ⟨Nat.le_of_ble_eq_true rfl, Nat.le_of_ble_eq_true rfl⟩)))) BV_no ?_
    refine BS_irem dX1_drawFlaw_34 ?_
    refine BS_istore_n dX1_drawFlaw_35 rfl (Nat.le_of_ble_eq_true rfl) ?_
    refine BS_aload_n dX1_drawFlaw_36 rfl ?_
    refine BS_gfr f_X1_46 dX1_drawFlaw_37 ?_
    refine BS_iload_n dX1_drawFlaw_40 rfl ?_
    refine BS_aload_n dX1_drawFlaw_41 rfl ?_
    refine BS_iconst dX1_drawFlaw_42 (by decide) ?_
    refine BS_call ((run_or (run_U dX1_drawFlaw_43 con_X11_size (ci := 8) rfl q1106 q888 q891 q887 q154 q892 (Or.inl ⟨_, _, _, q887, q892⟩) pu_Bo_size ⟨Nat.le_of_ble_eq_true rfl, Nat.le_of_ble_eq_true rfl⟩) (run_or (run_U dX1_drawFlaw_43 con_X11_size (ci := 9) rfl q1106 q888 q890 q887 q154 q892 (Or.inl ⟨_, _, _, q887, q892⟩) pu_Bo_size ⟨Nat.le_of_ble_eq_true rfl, Nat.le_of_ble_eq_true rfl⟩) (run_U dX1_drawFlaw_43 con_X11_size (ci := 10) rfl q1106 q888 q889 q887 q154 q892 (Or.inl ⟨_, _, _, q887, q892⟩) pu_Bo_size ⟨Nat.le_of_ble_eq_true rfl, Nat.le_of_ble_eq_true rfl⟩)))) BV_no ?_
    refine BS_icmp_ge (tgt := 53) dX1_drawFlaw_46 (by decide) ?_ ?_
    · refine BS_iconst dX1_drawFlaw_53 (by decide) ?_
      exact bs_X1_drawFlaw_b54
    · refine BS_iconst dX1_drawFlaw_49 (by decide) ?_
      refine BS_goto (tgt := 54) dX1_drawFlaw_50 (by decide) ?_
      exact bs_X1_drawFlaw_b54
  · exact BS_return dX1_drawFlaw_17 rfl
noncomputable def F_X1_drawFlaw : FF := mk_F 4 F_X1_drawFlaw_b0
theorem con_X1_drawFlaw : Con_ yX1_drawFlaw (ws_ yX1_drawFlaw cX1_drawFlaw 4 none) 1 22 F_X1_drawFlaw := Con_of (by decide +kernel) bs_X1_drawFlaw_b0
/-- LongerHalf.goThrough(II)V -/
abbrev M_X1_goThrough : MM := (yX1_goThrough, cX1_goThrough, none, 6, 134, 8, [])
theorem pd_X1_goThrough : (yX1_goThrough.cls ≠ "java/lang/invoke/MethodHandle" ∧ yX1_goThrough.cls ≠ "java/lang/invoke/VarHandle") ∧ (parseMethodDescriptor yX1_goThrough.desc).map (fun d => d.parameters.length) = some 2 := ⟨⟨by decide +kernel, by decide +kernel⟩, by decide +kernel⟩
noncomputable def F_X1_goThrough_b202 : KK (L_S ⊕ OO) :=
  op_dup2 <| op_iald 1 <| op_push (.int 1) <| op_i2 (fun x y => x + y) <| op_iast 1 .int <| op_iinc 3 1 <| op_back
theorem bs_X1_goThrough_b202 : B_S M_X1_goThrough 202 (F_X1_goThrough_b202) (z_L z_O) (k_L 45 k_O) := by
  unfold F_X1_goThrough_b202
  refine BS_dup2 dX1_goThrough_202 ?_
  refine BS_iaload dX1_goThrough_203 ?_
  refine BS_iconst dX1_goThrough_204 (by decide) ?_
  refine BS_iadd dX1_goThrough_205 ?_
  refine BS_iastore dX1_goThrough_206 ?_
  refine BS_iinc dX1_goThrough_207 (by decide) (Nat.le_of_ble_eq_true rfl) ?_
  refine BS_goto (tgt := 45) dX1_goThrough_210 (by decide) ?_
  exact BS_back
noncomputable def F_X1_goThrough_b117 : KK (L_S ⊕ OO) :=
  op_i2 (fun x y => x + y) <| op_ist 6 <| op_ald 0 <| op_ild 4 <| op_call 2 (f_kd 10 F_X1_lay) kx_no <| op_ald 0 <| op_gfr [10] 3 <| op_gfr [17] 69 <| op_ild 5 <| op_aald 6 <| op_ald 0 <| op_gfr [10] 3 <| op_gfr [17] 69 <| op_ild 6 <| op_aald 6 <| op_call 3 (f_kd 14 F_X5_asTold) kx_no <| op_ald 0 <| op_ald 0 <| op_gfr [10] 11 <| op_call 2 (f_kd 10 F_X1_drawFlaw) kx_no <| op_ald 0 <| op_gfr [10] 12 <| op_call 1 (f_kd 14 F_X5_comes) kx_no <| op_ist 7 <| op_ild 7 <| op_push (.int 2) <| op_clt (op_ald 0 <| op_gfr [10] 19 <| op_ild 7 <| op_ine (op_ild 6 <| F_X1_goThrough_b202) (op_ild 5 <| F_X1_goThrough_b202)) (op_ald 0 <| op_gfr [10] 20 <| op_ild 7 <| op_dup2 <| op_iald 1 <| op_push (.int 1) <| op_i2 (fun x y => x + y) <| op_iast 1 .int <| op_iinc 3 1 <| op_back)
theorem bs_X1_goThrough_b117 : B_S M_X1_goThrough 117 (F_X1_goThrough_b117) (z_L z_O) (k_L 45 k_O) := by
  unfold F_X1_goThrough_b117
  refine BS_iadd dX1_goThrough_117 ?_
  refine BS_istore dX1_goThrough_118 (Nat.le_of_ble_eq_true rfl) ?_
  refine BS_aload_n dX1_goThrough_120 rfl ?_
  refine BS_iload dX1_goThrough_121 ?_
  refine BS_call (run_V dX1_goThrough_123 con_X1_lay (ci := 0) rfl rfl q1149 q1151 qs32 q136 q1152 pd_X1_lay ⟨Nat.le_of_ble_eq_true rfl, Nat.le_of_ble_eq_true rfl⟩) BV_no ?_
  refine BS_aload_n dX1_goThrough_126 rfl ?_
  refine BS_gfr f_X1_108 dX1_goThrough_127 ?_
  refine BS_gfr f_X1_176 dX1_goThrough_130 ?_
  refine BS_iload dX1_goThrough_133 ?_
  refine BS_aaload dX1_goThrough_135 (by decide) (by decide) (C := "LongerHalf$Person") rfl ?_
  refine BS_aload_n dX1_goThrough_136 rfl ?_
  refine BS_gfr f_X1_108 dX1_goThrough_137 ?_
  refine BS_gfr f_X1_176 dX1_goThrough_140 ?_
  refine BS_iload dX1_goThrough_143 ?_
  refine BS_aaload dX1_goThrough_145 (by decide) (by decide) (C := "LongerHalf$Person") rfl ?_
  refine BS_call (run_V dX1_goThrough_146 con_X5_asTold (ci := 4) rfl rfl q1345 q1346 q1347 q143 q1348 pd_X5_asTold ⟨Nat.le_of_ble_eq_true rfl, Nat.le_of_ble_eq_true rfl⟩) BV_no ?_
  refine BS_aload_n dX1_goThrough_149 rfl ?_
  refine BS_aload_n dX1_goThrough_150 rfl ?_
  refine BS_gfr f_X1_40 dX1_goThrough_151 ?_
  refine BS_call (run_V dX1_goThrough_154 con_X1_drawFlaw (ci := 0) rfl rfl q1510 q1512 qs54 q136 q1513 pd_X1_drawFlaw ⟨Nat.le_of_ble_eq_true rfl, Nat.le_of_ble_eq_true rfl⟩) BV_no ?_
  refine BS_aload_n dX1_goThrough_157 rfl ?_
  refine BS_gfr f_X1_46 dX1_goThrough_158 ?_
  refine BS_call (run_V dX1_goThrough_161 con_X5_comes (ci := 4) rfl rfl q1222 q1223 q1224 q143 q1225 pd_X5_comes ⟨Nat.le_of_ble_eq_true rfl, Nat.le_of_ble_eq_true rfl⟩) BV_no ?_
  refine BS_istore dX1_goThrough_164 (Nat.le_of_ble_eq_true rfl) ?_
  refine BS_iload dX1_goThrough_166 ?_
  refine BS_iconst dX1_goThrough_168 (by decide) ?_
  refine BS_icmp_lt (tgt := 186) dX1_goThrough_169 (by decide) ?_ ?_
  · refine BS_aload_n dX1_goThrough_186 rfl ?_
    refine BS_gfr f_X1_73 dX1_goThrough_187 ?_
    refine BS_iload dX1_goThrough_190 ?_
    refine BS_if_ne (tgt := 200) dX1_goThrough_192 (by decide) ?_ ?_
    · refine BS_iload dX1_goThrough_200 ?_
      exact bs_X1_goThrough_b202
    · refine BS_iload dX1_goThrough_195 ?_
      refine BS_goto (tgt := 202) dX1_goThrough_197 (by decide) ?_
      exact bs_X1_goThrough_b202
  · refine BS_aload_n dX1_goThrough_172 rfl ?_
    refine BS_gfr f_X1_77 dX1_goThrough_173 ?_
    refine BS_iload dX1_goThrough_176 ?_
    refine BS_dup2 dX1_goThrough_178 ?_
    refine BS_iaload dX1_goThrough_179 ?_
    refine BS_iconst dX1_goThrough_180 (by decide) ?_
    refine BS_iadd dX1_goThrough_181 ?_
    refine BS_iastore dX1_goThrough_182 ?_
    refine BS_goto (tgt := 207) dX1_goThrough_183 (by decide) ?_
    refine BS_iinc dX1_goThrough_207 (by decide) (Nat.le_of_ble_eq_true rfl) ?_
    refine BS_goto (tgt := 45) dX1_goThrough_210 (by decide) ?_
    exact BS_back
noncomputable def F_X1_goThrough_l45 : KK (L_S ⊕ OO) :=
  op_ild 3 <| op_ild 2 <| op_cge (op_exit <| op_vret) (op_ald 0 <| op_gfr [10] 11 <| op_call 1 (f_kd 13 F_X4_draw) kx_no <| op_ald 0 <| op_gfr [10] 3 <| op_gfi [17] 77 <| op_i2d (fun x y => x - x / y * y) <| op_ist 4 <| op_ald 0 <| op_gfr [10] 11 <| op_call 1 (f_kd 13 F_X4_draw) kx_no <| op_ald 0 <| op_gfr [10] 3 <| op_gfi [17] 78 <| op_i2d (fun x y => x - x / y * y) <| op_ist 5 <| op_ald 0 <| op_gfr [10] 11 <| op_call 1 (f_kd 13 F_X4_draw) kx_no <| op_ald 0 <| op_gfr [10] 3 <| op_gfi [17] 78 <| op_push (.int 1) <| op_i2 (fun x y => x - y) <| op_i2d (fun x y => x - x / y * y) <| op_ist 6 <| op_ild 6 <| op_ild 6 <| op_ild 5 <| op_clt (op_push (.int 0) <| F_X1_goThrough_b117) (op_push (.int 1) <| F_X1_goThrough_b117))
theorem bs_X1_goThrough_l45 : B_S M_X1_goThrough 45 (F_X1_goThrough_l45) (z_L z_O) (k_L 45 k_O) := by
  unfold F_X1_goThrough_l45
  refine BS_iload_n dX1_goThrough_45 rfl ?_
  refine BS_iload_n dX1_goThrough_46 rfl ?_
  refine BS_icmp_ge (tgt := 213) dX1_goThrough_47 (by decide) ?_ ?_
  · refine BS_exit ?_
    exact BS_return dX1_goThrough_213 rfl
  · refine BS_aload_n dX1_goThrough_50 rfl ?_
    refine BS_gfr f_X1_40 dX1_goThrough_51 ?_
    refine BS_call (run_V dX1_goThrough_54 con_X4_draw (ci := 3) rfl rfl q1505 q1506 q1507 q142 q1508 pd_X4_draw ⟨Nat.le_of_ble_eq_true rfl, Nat.le_of_ble_eq_true rfl⟩) BV_no ?_
    refine BS_aload_n dX1_goThrough_57 rfl ?_
    refine BS_gfr f_X1_108 dX1_goThrough_58 ?_
    refine BS_gfi f_X1_128 dX1_goThrough_61 ?_
    refine BS_irem dX1_goThrough_64 ?_
    refine BS_istore dX1_goThrough_65 (Nat.le_of_ble_eq_true rfl) ?_
    refine BS_aload_n dX1_goThrough_67 rfl ?_
    refine BS_gfr f_X1_40 dX1_goThrough_68 ?_
    refine BS_call (run_V dX1_goThrough_71 con_X4_draw (ci := 3) rfl rfl q1505 q1506 q1507 q142 q1508 pd_X4_draw ⟨Nat.le_of_ble_eq_true rfl, Nat.le_of_ble_eq_true rfl⟩) BV_no ?_
    refine BS_aload_n dX1_goThrough_74 rfl ?_
    refine BS_gfr f_X1_108 dX1_goThrough_75 ?_
    refine BS_gfi f_X1_133 dX1_goThrough_78 ?_
    refine BS_irem dX1_goThrough_81 ?_
    refine BS_istore dX1_goThrough_82 (Nat.le_of_ble_eq_true rfl) ?_
    refine BS_aload_n dX1_goThrough_84 rfl ?_
    refine BS_gfr f_X1_40 dX1_goThrough_85 ?_
    refine BS_call (run_V dX1_goThrough_88 con_X4_draw (ci := 3) rfl rfl q1505 q1506 q1507 q142 q1508 pd_X4_draw ⟨Nat.le_of_ble_eq_true rfl, Nat.le_of_ble_eq_true rfl⟩) BV_no ?_
    refine BS_aload_n dX1_goThrough_91 rfl ?_
    refine BS_gfr f_X1_108 dX1_goThrough_92 ?_
    refine BS_gfi f_X1_133 dX1_goThrough_95 ?_
    refine BS_iconst dX1_goThrough_98 (by decide) ?_
    refine BS_isub dX1_goThrough_99 ?_
    refine BS_irem dX1_goThrough_100 ?_
    refine BS_istore dX1_goThrough_101 (Nat.le_of_ble_eq_true rfl) ?_
    refine BS_iload dX1_goThrough_103 ?_
    refine BS_iload dX1_goThrough_105 ?_
    refine BS_iload dX1_goThrough_107 ?_
    refine BS_icmp_lt (tgt := 116) dX1_goThrough_109 (by decide) ?_ ?_
    · refine BS_iconst dX1_goThrough_116 (by decide) ?_
      exact bs_X1_goThrough_b117
    · refine BS_iconst dX1_goThrough_112 (by decide) ?_
      refine BS_goto (tgt := 117) dX1_goThrough_113 (by decide) ?_
      exact bs_X1_goThrough_b117
noncomputable def F_X1_goThrough_b45 : KK OO := op_loop (F_X1_goThrough_l45)
theorem bs_X1_goThrough_b45 : B_S M_X1_goThrough 45 (F_X1_goThrough_b45) z_O k_O := BS_loop (bs_X1_goThrough_l45)
noncomputable def F_X1_goThrough_l2 : KK (L_S ⊕ OO) :=
  op_ild 3 <| op_push (.int 6) <| op_cge (op_exit <| op_ald 0 <| op_gfr [10] 20 <| op_push (.int 2) <| op_push (.int 0) <| op_iast 1 .int <| op_ald 0 <| op_gfr [10] 20 <| op_push (.int 3) <| op_push (.int 0) <| op_iast 1 .int <| op_ald 0 <| op_gfr [10] 11 <| op_ild 1 <| op_pfi .int [13] 43 <| op_push (.int 0) <| op_ist 3 <| F_X1_goThrough_b45) (op_ald 0 <| op_gfr [10] 19 <| op_ild 3 <| op_push (.int 0) <| op_iast 1 .int <| op_iinc 3 1 <| op_back)
theorem bs_X1_goThrough_l2 : B_S M_X1_goThrough 2 (F_X1_goThrough_l2) (z_L z_O) (k_L 2 k_O) := by
  unfold F_X1_goThrough_l2
  refine BS_iload_n dX1_goThrough_2 rfl ?_
  refine BS_bipush dX1_goThrough_3 (by decide) ?_
  refine BS_icmp_ge (tgt := 21) dX1_goThrough_5 (by decide) ?_ ?_
  · refine BS_exit ?_
    refine BS_aload_n dX1_goThrough_21 rfl ?_
    refine BS_gfr f_X1_77 dX1_goThrough_22 ?_
    refine BS_iconst dX1_goThrough_25 (by decide) ?_
    refine BS_iconst dX1_goThrough_26 (by decide) ?_
    refine BS_iastore dX1_goThrough_27 ?_
    refine BS_aload_n dX1_goThrough_28 rfl ?_
    refine BS_gfr f_X1_77 dX1_goThrough_29 ?_
    refine BS_iconst dX1_goThrough_32 (by decide) ?_
    refine BS_iconst dX1_goThrough_33 (by decide) ?_
    refine BS_iastore dX1_goThrough_34 ?_
    refine BS_aload_n dX1_goThrough_35 rfl ?_
    refine BS_gfr f_X1_40 dX1_goThrough_36 ?_
    refine BS_iload_n dX1_goThrough_39 rfl ?_
    refine BS_pfi p_X1_394 (fun h => by cases h) dX1_goThrough_40 ?_
    refine BS_iconst dX1_goThrough_43 (by decide) ?_
    refine BS_istore_n dX1_goThrough_44 rfl (Nat.le_of_ble_eq_true rfl) ?_
    exact bs_X1_goThrough_b45
  · refine BS_aload_n dX1_goThrough_8 rfl ?_
    refine BS_gfr f_X1_73 dX1_goThrough_9 ?_
    refine BS_iload_n dX1_goThrough_12 rfl ?_
    refine BS_iconst dX1_goThrough_13 (by decide) ?_
    refine BS_iastore dX1_goThrough_14 ?_
    refine BS_iinc dX1_goThrough_15 (by decide) (Nat.le_of_ble_eq_true rfl) ?_
    refine BS_goto (tgt := 2) dX1_goThrough_18 (by decide) ?_
    exact BS_back
noncomputable def F_X1_goThrough_b2 : KK OO := op_loop (F_X1_goThrough_l2)
theorem bs_X1_goThrough_b2 : B_S M_X1_goThrough 2 (F_X1_goThrough_b2) z_O k_O := BS_loop (bs_X1_goThrough_l2)
noncomputable def F_X1_goThrough_b0 : KK OO :=
  op_push (.int 0) <| op_ist 3 <| F_X1_goThrough_b2
theorem bs_X1_goThrough_b0 : B_S M_X1_goThrough 0 (F_X1_goThrough_b0) z_O k_O := by
  unfold F_X1_goThrough_b0
  refine BS_iconst dX1_goThrough_0 (by decide) ?_
  refine BS_istore_n dX1_goThrough_1 rfl (Nat.le_of_ble_eq_true rfl) ?_
  exact bs_X1_goThrough_b2
noncomputable def F_X1_goThrough : FF := mk_F 8 F_X1_goThrough_b0
theorem con_X1_goThrough : Con_ yX1_goThrough (ws_ yX1_goThrough cX1_goThrough 8 none) 6 134 F_X1_goThrough := Con_of (by decide +kernel) bs_X1_goThrough_b0
/-- LongerHalf.wins(III)I -/
abbrev M_X1_wins : MM := (yX1_wins, cX1_wins, (some .int), 7, 161, 4, [])
theorem pd_X1_wins : (yX1_wins.cls ≠ "java/lang/invoke/MethodHandle" ∧ yX1_wins.cls ≠ "java/lang/invoke/VarHandle") ∧ (parseMethodDescriptor yX1_wins.desc).map (fun d => d.parameters.length) = some 3 := ⟨⟨by decide +kernel, by decide +kernel⟩, by decide +kernel⟩
noncomputable def F_X1_wins_b40 : KK OO :=
  op_ald 0 <| op_push (.int 2) <| op_call 2 (f_kd 10 F_X1_no) kx_no <| op_iret .int
theorem bs_X1_wins_b40 : B_S M_X1_wins 40 (F_X1_wins_b40) z_O k_O := by
  unfold F_X1_wins_b40
  refine BS_aload_n dX1_wins_40 rfl ?_
  refine BS_iconst dX1_wins_41 (by decide) ?_
  refine BS_call (run_V dX1_wins_42 con_X1_no (ci := 0) rfl rfl q502 q504 qs3 q136 q505 pd_X1_no ⟨Nat.le_of_ble_eq_true rfl, Nat.le_of_ble_eq_true rfl⟩) BV_no ?_
  exact BS_ireturn dX1_wins_45 rfl
noncomputable def F_X1_wins_b0 : KK OO :=
  op_ald 0 <| op_call 1 (f_kd 10 F_X1_anew) kx_no <| op_ald 0 <| op_ild 1 <| op_call 2 (f_kd 10 F_X1_isPerson) kx_no <| op_ine (op_ild 2 <| op_push (.int 0) <| op_push (.int 65536) <| op_call 3 F_X1_in kx_no <| op_ieq (F_X1_wins_b40) (op_ild 3 <| op_push (.int 0) <| op_push (.int 200) <| op_call 3 F_X1_in kx_no <| op_ine (op_ald 0 <| op_ild 2 <| op_ild 3 <| op_call 3 (f_kd 10 F_X1_goThrough) kx_no <| op_ald 0 <| op_gfr [10] 19 <| op_ild 1 <| op_iald 1 <| op_iret .int) (F_X1_wins_b40))) (op_ald 0 <| op_push (.int 1) <| op_call 2 (f_kd 10 F_X1_no) kx_no <| op_iret .int)
theorem bs_X1_wins_b0 : B_S M_X1_wins 0 (F_X1_wins_b0) z_O k_O := by
  unfold F_X1_wins_b0
  refine BS_aload_n dX1_wins_0 rfl ?_
  refine BS_call (run_V dX1_wins_1 con_X1_anew (ci := 0) rfl rfl q495 q497 qs2 q136 q498 pd_X1_anew ⟨Nat.le_of_ble_eq_true rfl, Nat.le_of_ble_eq_true rfl⟩) BV_no ?_
  refine BS_aload_n dX1_wins_4 rfl ?_
  refine BS_iload_n dX1_wins_5 rfl ?_
  refine BS_call (run_V dX1_wins_6 con_X1_isPerson (ci := 0) rfl rfl q1126 q1128 qs31 q136 q1129 pd_X1_isPerson ⟨Nat.le_of_ble_eq_true rfl, Nat.le_of_ble_eq_true rfl⟩) BV_no ?_
  refine BS_if_ne (tgt := 18) dX1_wins_9 (by decide) ?_ ?_
  · refine BS_iload_n dX1_wins_18 rfl ?_
    refine BS_iconst dX1_wins_19 (by decide) ?_
    refine BS_ldcw dX1_wins_20 q1500 ?_
    refine BS_call (run_S dX1_wins_23 con_X1_in q499 q500 q136 q501 pd_X1_in ⟨Nat.le_of_ble_eq_true rfl, Nat.le_of_ble_eq_true rfl⟩) BV_no ?_
    refine BS_if_eq (tgt := 40) dX1_wins_26 (by decide) ?_ ?_
    · exact bs_X1_wins_b40
    · refine BS_iload_n dX1_wins_29 rfl ?_
      refine BS_iconst dX1_wins_30 (by decide) ?_
      refine BS_sipush dX1_wins_31 (by decide) ?_
      refine BS_call (run_S dX1_wins_34 con_X1_in q499 q500 q136 q501 pd_X1_in ⟨Nat.le_of_ble_eq_true rfl, Nat.le_of_ble_eq_true rfl⟩) BV_no ?_
      refine BS_if_ne (tgt := 46) dX1_wins_37 (by decide) ?_ ?_
      · refine BS_aload_n dX1_wins_46 rfl ?_
        refine BS_iload_n dX1_wins_47 rfl ?_
        refine BS_iload_n dX1_wins_48 rfl ?_
        refine BS_call (run_V dX1_wins_49 con_X1_goThrough (ci := 0) rfl rfl q1501 q1503 qs53 q136 q1504 pd_X1_goThrough ⟨Nat.le_of_ble_eq_true rfl, Nat.le_of_ble_eq_true rfl⟩) BV_no ?_
        refine BS_aload_n dX1_wins_52 rfl ?_
        refine BS_gfr f_X1_73 dX1_wins_53 ?_
        refine BS_iload_n dX1_wins_56 rfl ?_
        refine BS_iaload dX1_wins_57 ?_
        exact BS_ireturn dX1_wins_58 rfl
      · exact bs_X1_wins_b40
  · refine BS_aload_n dX1_wins_12 rfl ?_
    refine BS_iconst dX1_wins_13 (by decide) ?_
    refine BS_call (run_V dX1_wins_14 con_X1_no (ci := 0) rfl rfl q502 q504 qs3 q136 q505 pd_X1_no ⟨Nat.le_of_ble_eq_true rfl, Nat.le_of_ble_eq_true rfl⟩) BV_no ?_
    exact BS_ireturn dX1_wins_17 rfl
noncomputable def F_X1_wins : FF := mk_F 4 F_X1_wins_b0
theorem con_X1_wins : Con_ yX1_wins (ws_ yX1_wins cX1_wins 4 (some .int)) 7 161 F_X1_wins := Con_of (by decide +kernel) bs_X1_wins_b0
/-- LongerHalf.spoilt(IIZ)I -/
abbrev M_X1_spoilt : MM := (yX1_spoilt, cX1_spoilt, (some .int), 7, 161, 4, [])
theorem pd_X1_spoilt : (yX1_spoilt.cls ≠ "java/lang/invoke/MethodHandle" ∧ yX1_spoilt.cls ≠ "java/lang/invoke/VarHandle") ∧ (parseMethodDescriptor yX1_spoilt.desc).map (fun d => d.parameters.length) = some 3 := ⟨⟨by decide +kernel, by decide +kernel⟩, by decide +kernel⟩
noncomputable def F_X1_spoilt_b39 : KK OO :=
  op_ald 0 <| op_push (.int 2) <| op_call 2 (f_kd 10 F_X1_no) kx_no <| op_iret .int
theorem bs_X1_spoilt_b39 : B_S M_X1_spoilt 39 (F_X1_spoilt_b39) z_O k_O := by
  unfold F_X1_spoilt_b39
  refine BS_aload_n dX1_spoilt_39 rfl ?_
  refine BS_iconst dX1_spoilt_40 (by decide) ?_
  refine BS_call (run_V dX1_spoilt_41 con_X1_no (ci := 0) rfl rfl q502 q504 qs3 q136 q505 pd_X1_no ⟨Nat.le_of_ble_eq_true rfl, Nat.le_of_ble_eq_true rfl⟩) BV_no ?_
  exact BS_ireturn dX1_spoilt_44 rfl
noncomputable def F_X1_spoilt_b0 : KK OO :=
  op_ald 0 <| op_call 1 (f_kd 10 F_X1_anew) kx_no <| op_ald 0 <| op_gfr [10] 3 <| op_ifnn (op_ild 1 <| op_push (.int 0) <| op_push (.int 65536) <| op_call 3 F_X1_in kx_no <| op_ieq (F_X1_spoilt_b39) (op_ild 2 <| op_push (.int 0) <| op_push (.int 200) <| op_call 3 F_X1_in kx_no <| op_ine (op_ald 0 <| op_ild 1 <| op_ild 2 <| op_call 3 (f_kd 10 F_X1_goThrough) kx_no <| op_ald 0 <| op_gfr [10] 20 <| op_ild 3 <| op_ieq (op_push (.int 2) <| op_iald 1 <| op_iret .int) (op_push (.int 3) <| op_iald 1 <| op_iret .int)) (F_X1_spoilt_b39))) (op_ald 0 <| op_push (.int 1) <| op_call 2 (f_kd 10 F_X1_no) kx_no <| op_iret .int)
theorem bs_X1_spoilt_b0 : B_S M_X1_spoilt 0 (F_X1_spoilt_b0) z_O k_O := by
  unfold F_X1_spoilt_b0
  refine BS_aload_n dX1_spoilt_0 rfl ?_
  refine BS_call (run_V dX1_spoilt_1 con_X1_anew (ci := 0) rfl rfl q495 q497 qs2 q136 q498 pd_X1_anew ⟨Nat.le_of_ble_eq_true rfl, Nat.le_of_ble_eq_true rfl⟩) BV_no ?_
  refine BS_aload_n dX1_spoilt_4 rfl ?_
  refine BS_gfr f_X1_108 dX1_spoilt_5 ?_
  refine BS_ifnonnull (tgt := 17) dX1_spoilt_8 (by decide) ?_ ?_
  · refine BS_iload_n dX1_spoilt_17 rfl ?_
    refine BS_iconst dX1_spoilt_18 (by decide) ?_
    refine BS_ldcw dX1_spoilt_19 q1500 ?_
    refine BS_call (run_S dX1_spoilt_22 con_X1_in q499 q500 q136 q501 pd_X1_in ⟨Nat.le_of_ble_eq_true rfl, Nat.le_of_ble_eq_true rfl⟩) BV_no ?_
    refine BS_if_eq (tgt := 39) dX1_spoilt_25 (by decide) ?_ ?_
    · exact bs_X1_spoilt_b39
    · refine BS_iload_n dX1_spoilt_28 rfl ?_
      refine BS_iconst dX1_spoilt_29 (by decide) ?_
      refine BS_sipush dX1_spoilt_30 (by decide) ?_
      refine BS_call (run_S dX1_spoilt_33 con_X1_in q499 q500 q136 q501 pd_X1_in ⟨Nat.le_of_ble_eq_true rfl, Nat.le_of_ble_eq_true rfl⟩) BV_no ?_
      refine BS_if_ne (tgt := 45) dX1_spoilt_36 (by decide) ?_ ?_
      · refine BS_aload_n dX1_spoilt_45 rfl ?_
        refine BS_iload_n dX1_spoilt_46 rfl ?_
        refine BS_iload_n dX1_spoilt_47 rfl ?_
        refine BS_call (run_V dX1_spoilt_48 con_X1_goThrough (ci := 0) rfl rfl q1501 q1503 qs53 q136 q1504 pd_X1_goThrough ⟨Nat.le_of_ble_eq_true rfl, Nat.le_of_ble_eq_true rfl⟩) BV_no ?_
        refine BS_aload_n dX1_spoilt_51 rfl ?_
        refine BS_gfr f_X1_77 dX1_spoilt_52 ?_
        refine BS_iload_n dX1_spoilt_55 rfl ?_
        refine BS_if_eq (tgt := 63) dX1_spoilt_56 (by decide) ?_ ?_
        · refine BS_iconst dX1_spoilt_63 (by decide) ?_
          refine BS_iaload dX1_spoilt_64 ?_
          exact BS_ireturn dX1_spoilt_65 rfl
        · refine BS_iconst dX1_spoilt_59 (by decide) ?_
          refine BS_goto (tgt := 64) dX1_spoilt_60 (by decide) ?_
          refine BS_iaload dX1_spoilt_64 ?_
          exact BS_ireturn dX1_spoilt_65 rfl
      · exact bs_X1_spoilt_b39
  · refine BS_aload_n dX1_spoilt_11 rfl ?_
    refine BS_iconst dX1_spoilt_12 (by decide) ?_
    refine BS_call (run_V dX1_spoilt_13 con_X1_no (ci := 0) rfl rfl q502 q504 qs3 q136 q505 pd_X1_no ⟨Nat.le_of_ble_eq_true rfl, Nat.le_of_ble_eq_true rfl⟩) BV_no ?_
    exact BS_ireturn dX1_spoilt_16 rfl
noncomputable def F_X1_spoilt : FF := mk_F 4 F_X1_spoilt_b0
theorem con_X1_spoilt : Con_ yX1_spoilt (ws_ yX1_spoilt cX1_spoilt 4 (some .int)) 7 161 F_X1_spoilt := Con_of (by decide +kernel) bs_X1_spoilt_b0
/-- LongerHalf.done()Z -/
abbrev M_X1_done : MM := (yX1_done, cX1_done, (some .boolean), 2, 81, 3, [])
theorem pd_X1_done : (yX1_done.cls ≠ "java/lang/invoke/MethodHandle" ∧ yX1_done.cls ≠ "java/lang/invoke/VarHandle") ∧ (parseMethodDescriptor yX1_done.desc).map (fun d => d.parameters.length) = some 0 := ⟨⟨by decide +kernel, by decide +kernel⟩, by decide +kernel⟩
noncomputable def F_X1_done_b62 : KK OO :=
  op_ald 0 <| op_gfr [10] 15 <| op_ald 0 <| op_gfi [10] 8 <| op_aald 7 <| op_ald 0 <| op_gfr [10] 10 <| op_call 2 (f_kd 13 F_X4_become) kx_no <| op_ald 0 <| op_dup <| op_gfi [10] 8 <| op_push (.int 1) <| op_i2 (fun x y => x + y) <| op_pfi .int [10] 8 <| op_push (.int 1) <| op_iret .boolean
theorem bs_X1_done_b62 : B_S M_X1_done 62 (F_X1_done_b62) z_O k_O := by
  unfold F_X1_done_b62
  refine BS_aload_n dX1_done_62 rfl ?_
  refine BS_gfr f_X1_66 dX1_done_63 ?_
  refine BS_aload_n dX1_done_66 rfl ?_
  refine BS_gfi f_X1_122 dX1_done_67 ?_
  refine BS_aaload dX1_done_70 (by decide) (by decide) (C := "LongerHalf$Drawer") rfl ?_
  refine BS_aload_n dX1_done_71 rfl ?_
  refine BS_gfr f_X1_37 dX1_done_72 ?_
  refine BS_call (run_V dX1_done_75 con_X4_become (ci := 3) rfl rfl q1531 q1532 q1533 q142 q1534 pd_X4_become ⟨Nat.le_of_ble_eq_true rfl, Nat.le_of_ble_eq_true rfl⟩) BV_no ?_
  refine BS_aload_n dX1_done_78 rfl ?_
  refine BS_dup dX1_done_79 ?_
  refine BS_gfi f_X1_122 dX1_done_80 ?_
  refine BS_iconst dX1_done_83 (by decide) ?_
  refine BS_iadd dX1_done_84 ?_
  refine BS_pfi p_X1_122 (fun h => by cases h) dX1_done_85 ?_
  refine BS_iconst dX1_done_88 (by decide) ?_
  exact BS_ireturn dX1_done_89 rfl
noncomputable def F_X1_done_l18 : KK (L_S ⊕ OO) :=
  op_ild 2 <| op_push (.int 16) <| op_cge (op_exit <| op_ald 0 <| op_gfr [10] 15 <| op_push (.int 15) <| op_ald 1 <| op_aast 7 [13] <| op_ald 0 <| op_dup <| op_gfi [10] 8 <| op_push (.int 1) <| op_i2 (fun x y => x - y) <| op_pfi .int [10] 8 <| F_X1_done_b62) (op_ald 0 <| op_gfr [10] 15 <| op_ild 2 <| op_push (.int 1) <| op_i2 (fun x y => x - y) <| op_ald 0 <| op_gfr [10] 15 <| op_ild 2 <| op_aald 7 <| op_aast 7 [13] <| op_iinc 2 1 <| op_back)
theorem bs_X1_done_l18 : B_S M_X1_done 18 (F_X1_done_l18) (z_L z_O) (k_L 18 k_O) := by
  unfold F_X1_done_l18
  refine BS_iload_n dX1_done_18 rfl ?_
  refine BS_bipush dX1_done_19 (by decide) ?_
  refine BS_icmp_ge (tgt := 44) dX1_done_21 (by decide) ?_ ?_
  · refine BS_exit ?_
    refine BS_aload_n dX1_done_44 rfl ?_
    refine BS_gfr f_X1_66 dX1_done_45 ?_
    refine BS_bipush dX1_done_48 (by decide) ?_
    refine BS_aload_n dX1_done_50 rfl ?_
    refine BS_aastore dX1_done_51 (by decide) (by decide) (C := "LongerHalf$Drawer") rfl ao_7 ?_
    refine BS_aload_n dX1_done_52 rfl ?_
    refine BS_dup dX1_done_53 ?_
    refine BS_gfi f_X1_122 dX1_done_54 ?_
    refine BS_iconst dX1_done_57 (by decide) ?_
    refine BS_isub dX1_done_58 ?_
    refine BS_pfi p_X1_122 (fun h => by cases h) dX1_done_59 ?_
    exact bs_X1_done_b62
  · refine BS_aload_n dX1_done_24 rfl ?_
    refine BS_gfr f_X1_66 dX1_done_25 ?_
    refine BS_iload_n dX1_done_28 rfl ?_
    refine BS_iconst dX1_done_29 (by decide) ?_
    refine BS_isub dX1_done_30 ?_
    refine BS_aload_n dX1_done_31 rfl ?_
    refine BS_gfr f_X1_66 dX1_done_32 ?_
    refine BS_iload_n dX1_done_35 rfl ?_
    refine BS_aaload dX1_done_36 (by decide) (by decide) (C := "LongerHalf$Drawer") rfl ?_
    refine BS_aastore dX1_done_37 (by decide) (by decide) (C := "LongerHalf$Drawer") rfl ao_7 ?_
    refine BS_iinc dX1_done_38 (by decide) (Nat.le_of_ble_eq_true rfl) ?_
    refine BS_goto (tgt := 18) dX1_done_41 (by decide) ?_
    exact BS_back
noncomputable def F_X1_done_b18 : KK OO := op_loop (F_X1_done_l18)
theorem bs_X1_done_b18 : B_S M_X1_done 18 (F_X1_done_b18) z_O k_O := BS_loop (bs_X1_done_l18)
noncomputable def F_X1_done_b0 : KK OO :=
  op_ald 0 <| op_gfi [10] 8 <| op_push (.int 16) <| op_cne (F_X1_done_b62) (op_ald 0 <| op_gfr [10] 15 <| op_push (.int 0) <| op_aald 7 <| op_ast 1 <| op_push (.int 1) <| op_ist 2 <| F_X1_done_b18)
theorem bs_X1_done_b0 : B_S M_X1_done 0 (F_X1_done_b0) z_O k_O := by
  unfold F_X1_done_b0
  refine BS_aload_n dX1_done_0 rfl ?_
  refine BS_gfi f_X1_122 dX1_done_1 ?_
  refine BS_bipush dX1_done_4 (by decide) ?_
  refine BS_icmp_ne (tgt := 62) dX1_done_6 (by decide) ?_ ?_
  · exact bs_X1_done_b62
  · refine BS_aload_n dX1_done_9 rfl ?_
    refine BS_gfr f_X1_66 dX1_done_10 ?_
    refine BS_iconst dX1_done_13 (by decide) ?_
    refine BS_aaload dX1_done_14 (by decide) (by decide) (C := "LongerHalf$Drawer") rfl ?_
    refine BS_astore_n dX1_done_15 rfl (Nat.le_of_ble_eq_true rfl) ?_
    refine BS_iconst dX1_done_16 (by decide) ?_
    refine BS_istore_n dX1_done_17 rfl (Nat.le_of_ble_eq_true rfl) ?_
    exact bs_X1_done_b18
noncomputable def F_X1_done : FF := mk_F 3 F_X1_done_b0
theorem con_X1_done : Con_ yX1_done (ws_ yX1_done cX1_done 3 (some .boolean)) 2 81 F_X1_done := Con_of (by decide +kernel) bs_X1_done_b0
/-- LongerHalf.note()V -/
abbrev M_X1_note : MM := (yX1_note, cX1_note, none, 2, 81, 1, [])
theorem pd_X1_note : (yX1_note.cls ≠ "java/lang/invoke/MethodHandle" ∧ yX1_note.cls ≠ "java/lang/invoke/VarHandle") ∧ (parseMethodDescriptor yX1_note.desc).map (fun d => d.parameters.length) = some 0 := ⟨⟨by decide +kernel, by decide +kernel⟩, by decide +kernel⟩
noncomputable def F_X1_note_b0 : KK OO :=
  op_ald 0 <| op_gfr [10] 10 <| op_ald 0 <| op_gfr [10] 9 <| op_call 2 (f_kd 13 F_X4_become) kx_no <| op_vret
theorem bs_X1_note_b0 : B_S M_X1_note 0 (F_X1_note_b0) z_O k_O := by
  unfold F_X1_note_b0
  refine BS_aload_n dX1_note_0 rfl ?_
  refine BS_gfr f_X1_37 dX1_note_1 ?_
  refine BS_aload_n dX1_note_4 rfl ?_
  refine BS_gfr f_X1_33 dX1_note_5 ?_
  refine BS_call (run_V dX1_note_8 con_X4_become (ci := 3) rfl rfl q1531 q1532 q1533 q142 q1534 pd_X4_become ⟨Nat.le_of_ble_eq_true rfl, Nat.le_of_ble_eq_true rfl⟩) BV_no ?_
  exact BS_return dX1_note_11 rfl
noncomputable def F_X1_note : FF := mk_F 1 F_X1_note_b0
theorem con_X1_note : Con_ yX1_note (ws_ yX1_note cX1_note 1 none) 2 81 F_X1_note := Con_of (by decide +kernel) bs_X1_note_b0
/-- LongerHalf.yes(I)Z -/
abbrev M_X1_yes : MM := (yX1_yes, cX1_yes, (some .boolean), 1, 20, 2, [])
theorem pd_X1_yes : (yX1_yes.cls ≠ "java/lang/invoke/MethodHandle" ∧ yX1_yes.cls ≠ "java/lang/invoke/VarHandle") ∧ (parseMethodDescriptor yX1_yes.desc).map (fun d => d.parameters.length) = some 1 := ⟨⟨by decide +kernel, by decide +kernel⟩, by decide +kernel⟩
noncomputable def F_X1_yes_b0 : KK OO :=
  op_ald 0 <| op_call 1 (f_kd 10 F_X1_anew) kx_no <| op_ald 0 <| op_ild 1 <| op_pfi .int [10] 4 <| op_ild 1 <| op_ine (op_push (.int 0) <| op_iret .boolean) (op_push (.int 1) <| op_iret .boolean)
theorem bs_X1_yes_b0 : B_S M_X1_yes 0 (F_X1_yes_b0) z_O k_O := by
  unfold F_X1_yes_b0
  refine BS_aload_n dX1_yes_0 rfl ?_
  refine BS_call (run_V dX1_yes_1 con_X1_anew (ci := 0) rfl rfl q495 q497 qs2 q136 q498 pd_X1_anew ⟨Nat.le_of_ble_eq_true rfl, Nat.le_of_ble_eq_true rfl⟩) BV_no ?_
  refine BS_aload_n dX1_yes_4 rfl ?_
  refine BS_iload_n dX1_yes_5 rfl ?_
  refine BS_pfi p_X1_80 (fun h => by cases h) dX1_yes_6 ?_
  refine BS_iload_n dX1_yes_9 rfl ?_
  refine BS_if_ne (tgt := 17) dX1_yes_10 (by decide) ?_ ?_
  · refine BS_iconst dX1_yes_17 (by decide) ?_
    exact BS_ireturn dX1_yes_18 rfl
  · refine BS_iconst dX1_yes_13 (by decide) ?_
    refine BS_goto (tgt := 18) dX1_yes_14 (by decide) ?_
    exact BS_ireturn dX1_yes_18 rfl
noncomputable def F_X1_yes : FF := mk_F 2 F_X1_yes_b0
theorem con_X1_yes : Con_ yX1_yes (ws_ yX1_yes cX1_yes 2 (some .boolean)) 1 20 F_X1_yes := Con_of (by decide +kernel) bs_X1_yes_b0
/-- LongerHalf.dry(I)Z -/
abbrev M_X1_dry : MM := (yX1_dry, cX1_dry, (some .boolean), 3, 103, 3, [])
theorem pd_X1_dry : (yX1_dry.cls ≠ "java/lang/invoke/MethodHandle" ∧ yX1_dry.cls ≠ "java/lang/invoke/VarHandle") ∧ (parseMethodDescriptor yX1_dry.desc).map (fun d => d.parameters.length) = some 1 := ⟨⟨by decide +kernel, by decide +kernel⟩, by decide +kernel⟩
noncomputable def F_X1_dry_l41 : KK (L_S ⊕ OO) :=
  op_ild 2 <| op_ald 0 <| op_gfr [10] 3 <| op_gfi [17] 77 <| op_cge (op_exit <| op_ald 0 <| op_call 1 (f_kd 10 F_X1_done) kx_no <| op_iret .boolean) (op_ald 0 <| op_gfr [10] 9 <| op_gfi [13] 42 <| op_ild 2 <| op_call 2 F_X1_has kx_no <| op_ine (op_iinc 2 1 <| op_back) (op_ald 0 <| op_gfr [10] 9 <| op_gfr [13] 39 <| op_ild 2 <| op_push (.int 24) <| op_ald 0 <| op_gfr [10] 9 <| op_gfr [13] 39 <| op_ild 2 <| op_iald 1 <| op_ild 1 <| op_i2 (fun x y => x + y) <| op_m2i (fun x y => if y < x then y else x) <| op_iast 1 .int <| op_iinc 2 1 <| op_back))
theorem bs_X1_dry_l41 : B_S M_X1_dry 41 (F_X1_dry_l41) (z_L z_O) (k_L 41 k_O) := by
  unfold F_X1_dry_l41
  refine BS_iload_n dX1_dry_41 rfl ?_
  refine BS_aload_n dX1_dry_42 rfl ?_
  refine BS_gfr f_X1_108 dX1_dry_43 ?_
  refine BS_gfi f_X1_128 dX1_dry_46 ?_
  refine BS_icmp_ge (tgt := 97) dX1_dry_49 (by decide) ?_ ?_
  · refine BS_exit ?_
    refine BS_aload_n dX1_dry_97 rfl ?_
    refine BS_call (run_V dX1_dry_98 con_X1_done (ci := 0) rfl rfl q1538 q1540 qs57 q136 q1541 pd_X1_done ⟨Nat.le_of_ble_eq_true rfl, Nat.le_of_ble_eq_true rfl⟩) BV_no ?_
    exact BS_ireturn dX1_dry_101 rfl
  · refine BS_aload_n dX1_dry_52 rfl ?_
    refine BS_gfr f_X1_33 dX1_dry_53 ?_
    refine BS_gfi f_X1_166 dX1_dry_56 ?_
    refine BS_iload_n dX1_dry_59 rfl ?_
    refine BS_call (run_S dX1_dry_60 con_X1_has q1093 q1045 q136 q1046 pd_X1_has ⟨Nat.le_of_ble_eq_true rfl, Nat.le_of_ble_eq_true rfl⟩) BV_no ?_
    refine BS_if_ne (tgt := 91) dX1_dry_63 (by decide) ?_ ?_
    · refine BS_iinc dX1_dry_91 (by decide) (Nat.le_of_ble_eq_true rfl) ?_
      refine BS_goto (tgt := 41) dX1_dry_94 (by decide) ?_
      exact BS_back
    · refine BS_aload_n dX1_dry_66 rfl ?_
      refine BS_gfr f_X1_33 dX1_dry_67 ?_
      refine BS_gfr f_X1_163 dX1_dry_70 ?_
      refine BS_iload_n dX1_dry_73 rfl ?_
      refine BS_bipush dX1_dry_74 (by decide) ?_
      refine BS_aload_n dX1_dry_76 rfl ?_
      refine BS_gfr f_X1_33 dX1_dry_77 ?_
      refine BS_gfr f_X1_163 dX1_dry_80 ?_
      refine BS_iload_n dX1_dry_83 rfl ?_
      refine BS_iaload dX1_dry_84 ?_
      refine BS_iload_n dX1_dry_85 rfl ?_
      refine BS_iadd dX1_dry_86 ?_
      refine BS_mmin dX1_dry_87 q1468 (Nat.le_of_ble_eq_true rfl) (Nat.le_of_ble_eq_true rfl) ?_
      refine BS_iastore dX1_dry_90 ?_
      refine BS_iinc dX1_dry_91 (by decide) (Nat.le_of_ble_eq_true rfl) ?_
      refine BS_goto (tgt := 41) dX1_dry_94 (by decide) ?_
      exact BS_back
noncomputable def F_X1_dry_b41 : KK OO := op_loop (F_X1_dry_l41)
theorem bs_X1_dry_b41 : B_S M_X1_dry 41 (F_X1_dry_b41) z_O k_O := BS_loop (bs_X1_dry_l41)
noncomputable def F_X1_dry_b27 : KK OO :=
  op_call 2 (f_kd 10 F_X1_yes) kx_no <| op_ine (op_ald 0 <| op_call 1 (f_kd 10 F_X1_note) kx_no <| op_push (.int 0) <| op_ist 2 <| F_X1_dry_b41) (op_push (.int 0) <| op_iret .boolean)
theorem bs_X1_dry_b27 : B_S M_X1_dry 27 (F_X1_dry_b27) z_O k_O := by
  unfold F_X1_dry_b27
  refine BS_call (run_V dX1_dry_27 con_X1_yes (ci := 0) rfl rfl q1523 q1525 qs55 q136 q1526 pd_X1_yes ⟨Nat.le_of_ble_eq_true rfl, Nat.le_of_ble_eq_true rfl⟩) BV_no ?_
  refine BS_if_ne (tgt := 35) dX1_dry_30 (by decide) ?_ ?_
  · refine BS_aload_n dX1_dry_35 rfl ?_
    refine BS_call (run_V dX1_dry_36 con_X1_note (ci := 0) rfl rfl q1527 q1529 qs56 q136 q1530 pd_X1_note ⟨Nat.le_of_ble_eq_true rfl, Nat.le_of_ble_eq_true rfl⟩) BV_no ?_
    refine BS_iconst dX1_dry_39 (by decide) ?_
    refine BS_istore_n dX1_dry_40 rfl (Nat.le_of_ble_eq_true rfl) ?_
    exact bs_X1_dry_b41
  · refine BS_iconst dX1_dry_33 (by decide) ?_
    exact BS_ireturn dX1_dry_34 rfl
noncomputable def F_X1_dry_b0 : KK OO :=
  op_ald 0 <| op_ald 0 <| op_gfr [10] 3 <| op_ifnn (op_ild 1 <| op_push (.int 1) <| op_push (.int 24) <| op_call 3 F_X1_in kx_no <| op_ieq (op_push (.int 2) <| F_X1_dry_b27) (op_push (.int 0) <| F_X1_dry_b27)) (op_push (.int 1) <| F_X1_dry_b27)
theorem bs_X1_dry_b0 : B_S M_X1_dry 0 (F_X1_dry_b0) z_O k_O := by
  unfold F_X1_dry_b0
  refine BS_aload_n dX1_dry_0 rfl ?_
  refine BS_aload_n dX1_dry_1 rfl ?_
  refine BS_gfr f_X1_108 dX1_dry_2 ?_
  refine BS_ifnonnull (tgt := 12) dX1_dry_5 (by decide) ?_ ?_
  · refine BS_iload_n dX1_dry_12 rfl ?_
    refine BS_iconst dX1_dry_13 (by decide) ?_
    refine BS_bipush dX1_dry_14 (by decide) ?_
    refine BS_call (run_S dX1_dry_16 con_X1_in q499 q500 q136 q501 pd_X1_in ⟨Nat.le_of_ble_eq_true rfl, Nat.le_of_ble_eq_true rfl⟩) BV_no ?_
    refine BS_if_eq (tgt := 26) dX1_dry_19 (by decide) ?_ ?_
    · refine BS_iconst dX1_dry_26 (by decide) ?_
      exact bs_X1_dry_b27
    · refine BS_iconst dX1_dry_22 (by decide) ?_
      refine BS_goto (tgt := 27) dX1_dry_23 (by decide) ?_
      exact bs_X1_dry_b27
  · refine BS_iconst dX1_dry_8 (by decide) ?_
    refine BS_goto (tgt := 27) dX1_dry_9 (by decide) ?_
    exact bs_X1_dry_b27
noncomputable def F_X1_dry : FF := mk_F 3 F_X1_dry_b0
theorem con_X1_dry : Con_ yX1_dry (ws_ yX1_dry cX1_dry 3 (some .boolean)) 3 103 F_X1_dry := Con_of (by decide +kernel) bs_X1_dry_b0
/-- LongerHalf.boil(I)Z -/
abbrev M_X1_boil : MM := (yX1_boil, cX1_boil, (some .boolean), 3, 103, 2, [])
theorem pd_X1_boil : (yX1_boil.cls ≠ "java/lang/invoke/MethodHandle" ∧ yX1_boil.cls ≠ "java/lang/invoke/VarHandle") ∧ (parseMethodDescriptor yX1_boil.desc).map (fun d => d.parameters.length) = some 1 := ⟨⟨by decide +kernel, by decide +kernel⟩, by decide +kernel⟩
noncomputable def F_X1_boil_b40 : KK OO :=
  op_call 2 (f_kd 10 F_X1_yes) kx_no <| op_ine (op_ald 0 <| op_call 1 (f_kd 10 F_X1_note) kx_no <| op_ald 0 <| op_gfr [10] 9 <| op_dup <| op_gfi [13] 41 <| op_push (.int 1) <| op_ild 1 <| op_i2 (fun x y => x <<< (y &&& 31)) <| op_i2 (fun x y => x ||| y) <| op_pfi .int [13] 41 <| op_ald 0 <| op_call 1 (f_kd 10 F_X1_done) kx_no <| op_iret .boolean) (op_push (.int 0) <| op_iret .boolean)
theorem bs_X1_boil_b40 : B_S M_X1_boil 40 (F_X1_boil_b40) z_O k_O := by
  unfold F_X1_boil_b40
  refine BS_call (run_V dX1_boil_40 con_X1_yes (ci := 0) rfl rfl q1523 q1525 qs55 q136 q1526 pd_X1_yes ⟨Nat.le_of_ble_eq_true rfl, Nat.le_of_ble_eq_true rfl⟩) BV_no ?_
  refine BS_if_ne (tgt := 48) dX1_boil_43 (by decide) ?_ ?_
  · refine BS_aload_n dX1_boil_48 rfl ?_
    refine BS_call (run_V dX1_boil_49 con_X1_note (ci := 0) rfl rfl q1527 q1529 qs56 q136 q1530 pd_X1_note ⟨Nat.le_of_ble_eq_true rfl, Nat.le_of_ble_eq_true rfl⟩) BV_no ?_
    refine BS_aload_n dX1_boil_52 rfl ?_
    refine BS_gfr f_X1_33 dX1_boil_53 ?_
    refine BS_dup dX1_boil_56 ?_
    refine BS_gfi f_X1_152 dX1_boil_57 ?_
    refine BS_iconst dX1_boil_60 (by decide) ?_
    refine BS_iload_n dX1_boil_61 rfl ?_
    refine BS_ishl dX1_boil_62 ?_
    refine BS_ior dX1_boil_63 ?_
    refine BS_pfi p_X1_152 (fun h => by cases h) dX1_boil_64 ?_
    refine BS_aload_n dX1_boil_67 rfl ?_
    refine BS_call (run_V dX1_boil_68 con_X1_done (ci := 0) rfl rfl q1538 q1540 qs57 q136 q1541 pd_X1_done ⟨Nat.le_of_ble_eq_true rfl, Nat.le_of_ble_eq_true rfl⟩) BV_no ?_
    exact BS_ireturn dX1_boil_71 rfl
  · refine BS_iconst dX1_boil_46 (by decide) ?_
    exact BS_ireturn dX1_boil_47 rfl
noncomputable def F_X1_boil_b0 : KK OO :=
  op_ald 0 <| op_ald 0 <| op_ild 1 <| op_call 2 (f_kd 10 F_X1_isBone) kx_no <| op_ine (op_ald 0 <| op_gfr [10] 9 <| op_gfi [13] 42 <| op_ald 0 <| op_gfr [10] 9 <| op_gfi [13] 41 <| op_i2 (fun x y => x ||| y) <| op_ild 1 <| op_call 2 F_X1_has kx_no <| op_ieq (op_push (.int 0) <| F_X1_boil_b40) (op_push (.int 5) <| F_X1_boil_b40)) (op_push (.int 1) <| F_X1_boil_b40)
theorem bs_X1_boil_b0 : B_S M_X1_boil 0 (F_X1_boil_b0) z_O k_O := by
  unfold F_X1_boil_b0
  refine BS_aload_n dX1_boil_0 rfl ?_
  refine BS_aload_n dX1_boil_1 rfl ?_
  refine BS_iload_n dX1_boil_2 rfl ?_
  refine BS_call (run_V dX1_boil_3 con_X1_isBone (ci := 0) rfl rfl q1089 q1091 qs29 q136 q1092 pd_X1_isBone ⟨Nat.le_of_ble_eq_true rfl, Nat.le_of_ble_eq_true rfl⟩) BV_no ?_
  refine BS_if_ne (tgt := 13) dX1_boil_6 (by decide) ?_ ?_
  · refine BS_aload_n dX1_boil_13 rfl ?_
    refine BS_gfr f_X1_33 dX1_boil_14 ?_
    refine BS_gfi f_X1_166 dX1_boil_17 ?_
    refine BS_aload_n dX1_boil_20 rfl ?_
    refine BS_gfr f_X1_33 dX1_boil_21 ?_
    refine BS_gfi f_X1_152 dX1_boil_24 ?_
    refine BS_ior dX1_boil_27 ?_
    refine BS_iload_n dX1_boil_28 rfl ?_
    refine BS_call (run_S dX1_boil_29 con_X1_has q1093 q1045 q136 q1046 pd_X1_has ⟨Nat.le_of_ble_eq_true rfl, Nat.le_of_ble_eq_true rfl⟩) BV_no ?_
    refine BS_if_eq (tgt := 39) dX1_boil_32 (by decide) ?_ ?_
    · refine BS_iconst dX1_boil_39 (by decide) ?_
      exact bs_X1_boil_b40
    · refine BS_iconst dX1_boil_35 (by decide) ?_
      refine BS_goto (tgt := 40) dX1_boil_36 (by decide) ?_
      exact bs_X1_boil_b40
  · refine BS_iconst dX1_boil_9 (by decide) ?_
    refine BS_goto (tgt := 40) dX1_boil_10 (by decide) ?_
    exact bs_X1_boil_b40
noncomputable def F_X1_boil : FF := mk_F 2 F_X1_boil_b0
theorem con_X1_boil : Con_ yX1_boil (ws_ yX1_boil cX1_boil 2 (some .boolean)) 3 103 F_X1_boil := Con_of (by decide +kernel) bs_X1_boil_b0
/-- LongerHalf.pull(IIIIII)I -/
abbrev M_X1_pull : MM := (yX1_pull, cX1_pull, (some .int), 6, 134, 9, [])
theorem pd_X1_pull : (yX1_pull.cls ≠ "java/lang/invoke/MethodHandle" ∧ yX1_pull.cls ≠ "java/lang/invoke/VarHandle") ∧ (parseMethodDescriptor yX1_pull.desc).map (fun d => d.parameters.length) = some 6 := ⟨⟨by decide +kernel, by decide +kernel⟩, by decide +kernel⟩
noncomputable def F_X1_pull_b60 : KK OO :=
  op_ald 0 <| op_push (.int 5) <| op_call 2 (f_kd 10 F_X1_no) kx_no <| op_iret .int
theorem bs_X1_pull_b60 : B_S M_X1_pull 60 (F_X1_pull_b60) z_O k_O := by
  unfold F_X1_pull_b60
  refine BS_aload_n dX1_pull_60 rfl ?_
  refine BS_iconst dX1_pull_61 (by decide) ?_
  refine BS_call (run_V dX1_pull_62 con_X1_no (ci := 0) rfl rfl q502 q504 qs3 q136 q505 pd_X1_no ⟨Nat.le_of_ble_eq_true rfl, Nat.le_of_ble_eq_true rfl⟩) BV_no ?_
  exact BS_ireturn dX1_pull_65 rfl
noncomputable def F_X1_pull_b151 : KK OO :=
  op_ald 0 <| op_call 1 (f_kd 10 F_X1_done) kx_no <| op_pop <| op_ild 8 <| op_iret .int
theorem bs_X1_pull_b151 : B_S M_X1_pull 151 (F_X1_pull_b151) z_O k_O := by
  unfold F_X1_pull_b151
  refine BS_aload_n dX1_pull_151 rfl ?_
  refine BS_call (run_V dX1_pull_152 con_X1_done (ci := 0) rfl rfl q1538 q1540 qs57 q136 q1541 pd_X1_done ⟨Nat.le_of_ble_eq_true rfl, Nat.le_of_ble_eq_true rfl⟩) BV_no ?_
  refine BS_pop dX1_pull_155 ?_
  refine BS_iload dX1_pull_156 ?_
  exact BS_ireturn dX1_pull_158 rfl
noncomputable def F_X1_pull_b146 : KK OO :=
  op_dup2 <| op_iald 1 <| op_push (.int 1) <| op_i2 (fun x y => x + y) <| op_iast 1 .int <| F_X1_pull_b151
theorem bs_X1_pull_b146 : B_S M_X1_pull 146 (F_X1_pull_b146) z_O k_O := by
  unfold F_X1_pull_b146
  refine BS_dup2 dX1_pull_146 ?_
  refine BS_iaload dX1_pull_147 ?_
  refine BS_iconst dX1_pull_148 (by decide) ?_
  refine BS_iadd dX1_pull_149 ?_
  refine BS_iastore dX1_pull_150 ?_
  exact bs_X1_pull_b151
noncomputable def F_X1_pull_b122 : KK OO :=
  op_ild 8 <| op_push (.int 2) <| op_cge (F_X1_pull_b151) (op_ald 0 <| op_gfr [10] 9 <| op_gfr [13] 40 <| op_ild 8 <| op_ine (op_ild 4 <| F_X1_pull_b146) (op_ild 2 <| F_X1_pull_b146))
theorem bs_X1_pull_b122 : B_S M_X1_pull 122 (F_X1_pull_b122) z_O k_O := by
  unfold F_X1_pull_b122
  refine BS_iload dX1_pull_122 ?_
  refine BS_iconst dX1_pull_124 (by decide) ?_
  refine BS_icmp_ge (tgt := 151) dX1_pull_125 (by decide) ?_ ?_
  · exact bs_X1_pull_b151
  · refine BS_aload_n dX1_pull_128 rfl ?_
    refine BS_gfr f_X1_33 dX1_pull_129 ?_
    refine BS_gfr f_X1_198 dX1_pull_132 ?_
    refine BS_iload dX1_pull_135 ?_
    refine BS_if_ne (tgt := 144) dX1_pull_137 (by decide) ?_ ?_
    · refine BS_iload dX1_pull_144 ?_
      exact bs_X1_pull_b146
    · refine BS_iload_n dX1_pull_140 rfl ?_
      refine BS_goto (tgt := 146) dX1_pull_141 (by decide) ?_
      exact bs_X1_pull_b146
noncomputable def F_X1_pull_b101 : KK OO :=
  op_ild 8 <| op_push (.int 3) <| op_ceq (F_X1_pull_b122) (op_ald 0 <| op_gfr [10] 9 <| op_dup <| op_gfi [13] 42 <| op_push (.int 1) <| op_ild 1 <| op_i2 (fun x y => x <<< (y &&& 31)) <| op_i2 (fun x y => x ||| y) <| op_pfi .int [13] 42 <| F_X1_pull_b122)
theorem bs_X1_pull_b101 : B_S M_X1_pull 101 (F_X1_pull_b101) z_O k_O := by
  unfold F_X1_pull_b101
  refine BS_iload dX1_pull_101 ?_
  refine BS_iconst dX1_pull_103 (by decide) ?_
  refine BS_icmp_eq (tgt := 122) dX1_pull_104 (by decide) ?_ ?_
  · exact bs_X1_pull_b122
  · refine BS_aload_n dX1_pull_107 rfl ?_
    refine BS_gfr f_X1_33 dX1_pull_108 ?_
    refine BS_dup dX1_pull_111 ?_
    refine BS_gfi f_X1_166 dX1_pull_112 ?_
    refine BS_iconst dX1_pull_115 (by decide) ?_
    refine BS_iload_n dX1_pull_116 rfl ?_
    refine BS_ishl dX1_pull_117 ?_
    refine BS_ior dX1_pull_118 ?_
    refine BS_pfi p_X1_166 (fun h => by cases h) dX1_pull_119 ?_
    exact bs_X1_pull_b122
noncomputable def F_X1_pull_b24 : KK OO :=
  op_ald 0 <| op_ild 7 <| op_call 2 (f_kd 10 F_X1_no) kx_no <| op_iret .int
theorem bs_X1_pull_b24 : B_S M_X1_pull 24 (F_X1_pull_b24) z_O k_O := by
  unfold F_X1_pull_b24
  refine BS_aload_n dX1_pull_24 rfl ?_
  refine BS_iload dX1_pull_25 ?_
  refine BS_call (run_V dX1_pull_27 con_X1_no (ci := 0) rfl rfl q502 q504 qs3 q136 q505 pd_X1_no ⟨Nat.le_of_ble_eq_true rfl, Nat.le_of_ble_eq_true rfl⟩) BV_no ?_
  exact BS_ireturn dX1_pull_30 rfl
noncomputable def F_X1_pull_b0 : KK OO :=
  op_ald 0 <| op_call 1 (f_kd 10 F_X1_anew) kx_no <| op_ald 0 <| op_ild 1 <| op_ild 2 <| op_ild 3 <| op_ild 4 <| op_ild 5 <| op_ild 6 <| op_call 7 (f_kd 10 F_X1_pullWhy) kx_no <| op_ist 7 <| op_ild 7 <| op_ieq (op_ald 0 <| op_gfr [10] 3 <| op_gfr [17] 68 <| op_ild 1 <| op_aald 8 <| op_call 1 (f_or (f_kd 18 F_X11_isPulled) (f_or (f_kd 19 F_X13_isPulled) (f_kd 20 F_X11_isPulled))) kx_no <| op_ieq (F_X1_pull_b60) (op_ald 0 <| op_gfr [10] 9 <| op_gfi [13] 42 <| op_ild 1 <| op_call 2 F_X1_has kx_no <| op_ieq (op_ald 0 <| op_call 1 (f_kd 10 F_X1_note) kx_no <| op_ald 0 <| op_ild 1 <| op_ild 2 <| op_ild 3 <| op_ild 4 <| op_ild 5 <| op_ild 6 <| op_call 7 (f_kd 10 F_X1_layPull) kx_no <| op_pop <| op_ald 0 <| op_ald 0 <| op_gfr [10] 9 <| op_call 2 (f_kd 10 F_X1_drawFlaw) kx_no <| op_ald 0 <| op_gfr [10] 12 <| op_call 1 (f_kd 14 F_X5_comes) kx_no <| op_ist 8 <| F_X1_pull_b101) (F_X1_pull_b60))) (F_X1_pull_b24)
theorem bs_X1_pull_b0 : B_S M_X1_pull 0 (F_X1_pull_b0) z_O k_O := by
  unfold F_X1_pull_b0
  refine BS_aload_n dX1_pull_0 rfl ?_
  refine BS_call (run_V dX1_pull_1 con_X1_anew (ci := 0) rfl rfl q495 q497 qs2 q136 q498 pd_X1_anew ⟨Nat.le_of_ble_eq_true rfl, Nat.le_of_ble_eq_true rfl⟩) BV_no ?_
  refine BS_aload_n dX1_pull_4 rfl ?_
  refine BS_iload_n dX1_pull_5 rfl ?_
  refine BS_iload_n dX1_pull_6 rfl ?_
  refine BS_iload_n dX1_pull_7 rfl ?_
  refine BS_iload dX1_pull_8 ?_
  refine BS_iload dX1_pull_10 ?_
  refine BS_iload dX1_pull_12 ?_
  refine BS_call (run_V dX1_pull_14 con_X1_pullWhy (ci := 0) rfl rfl q1180 q1182 qs34 q136 q1183 pd_X1_pullWhy ⟨Nat.le_of_ble_eq_true rfl, Nat.le_of_ble_eq_true rfl⟩) BV_no ?_
  refine BS_istore dX1_pull_17 (Nat.le_of_ble_eq_true rfl) ?_
  refine BS_iload dX1_pull_19 ?_
  refine BS_if_eq (tgt := 31) dX1_pull_21 (by decide) ?_ ?_
  · refine BS_aload_n dX1_pull_31 rfl ?_
    refine BS_gfr f_X1_108 dX1_pull_32 ?_
    refine BS_gfr f_X1_143 dX1_pull_35 ?_
    refine BS_iload_n dX1_pull_38 rfl ?_
    refine BS_aaload dX1_pull_39 (by decide) (by decide) (C := "LongerHalf$Bone") rfl ?_
    refine BS_call ((run_or (run_U dX1_pull_40 con_X11_isPulled (ci := 8) rfl q1550 q1552 q1557 q1551 q154 q1558 (Or.inl ⟨_, _, _, q1551, q1558⟩) pu_Bo_isPulled ⟨Nat.le_of_ble_eq_true rfl, Nat.le_of_ble_eq_true rfl⟩) (run_or (run_U dX1_pull_40 con_X13_isPulled (ci := 9) rfl q1550 q1552 q1554 q1555 q156 q1556 (Or.inl ⟨_, _, _, q1551, q1558⟩) pu_Bo_isPulled ⟨Nat.le_of_ble_eq_true rfl, Nat.le_of_ble_eq_true rfl⟩) (run_U dX1_pull_40 con_X11_isPulled (ci := 10) rfl q1550 q1552 q1553 q1551 q154 q1558 (Or.inl ⟨_, _, _, q1551, q1558⟩) pu_Bo_isPulled ⟨Nat.le_of_ble_eq_true rfl, Nat.le_of_ble_eq_true rfl⟩)))) BV_no ?_
    refine BS_if_eq (tgt := 60) dX1_pull_43 (by decide) ?_ ?_
    · exact bs_X1_pull_b60
    · refine BS_aload_n dX1_pull_46 rfl ?_
      refine BS_gfr f_X1_33 dX1_pull_47 ?_
      refine BS_gfi f_X1_166 dX1_pull_50 ?_
      refine BS_iload_n dX1_pull_53 rfl ?_
      refine BS_call (run_S dX1_pull_54 con_X1_has q1093 q1045 q136 q1046 pd_X1_has ⟨Nat.le_of_ble_eq_true rfl, Nat.le_of_ble_eq_true rfl⟩) BV_no ?_
      refine BS_if_eq (tgt := 66) dX1_pull_57 (by decide) ?_ ?_
      · refine BS_aload_n dX1_pull_66 rfl ?_
        refine BS_call (run_V dX1_pull_67 con_X1_note (ci := 0) rfl rfl q1527 q1529 qs56 q136 q1530 pd_X1_note ⟨Nat.le_of_ble_eq_true rfl, Nat.le_of_ble_eq_true rfl⟩) BV_no ?_
        refine BS_aload_n dX1_pull_70 rfl ?_
        refine BS_iload_n dX1_pull_71 rfl ?_
        refine BS_iload_n dX1_pull_72 rfl ?_
        refine BS_iload_n dX1_pull_73 rfl ?_
        refine BS_iload dX1_pull_74 ?_
        refine BS_iload dX1_pull_76 ?_
        refine BS_iload dX1_pull_78 ?_
        refine BS_call (run_V dX1_pull_80 con_X1_layPull (ci := 0) rfl rfl q1192 q1194 qs37 q136 q1195 pd_X1_layPull ⟨Nat.le_of_ble_eq_true rfl, Nat.le_of_ble_eq_true rfl⟩) BV_no ?_
        refine BS_pop dX1_pull_83 ?_
        refine BS_aload_n dX1_pull_84 rfl ?_
        refine BS_aload_n dX1_pull_85 rfl ?_
        refine BS_gfr f_X1_33 dX1_pull_86 ?_
        refine BS_call (run_V dX1_pull_89 con_X1_drawFlaw (ci := 0) rfl rfl q1510 q1512 qs54 q136 q1513 pd_X1_drawFlaw ⟨Nat.le_of_ble_eq_true rfl, Nat.le_of_ble_eq_true rfl⟩) BV_no ?_
        refine BS_aload_n dX1_pull_92 rfl ?_
        refine BS_gfr f_X1_46 dX1_pull_93 ?_
        refine BS_call (run_V dX1_pull_96 con_X5_comes (ci := 4) rfl rfl q1222 q1223 q1224 q143 q1225 pd_X5_comes ⟨Nat.le_of_ble_eq_true rfl, Nat.le_of_ble_eq_true rfl⟩) BV_no ?_
        refine BS_istore dX1_pull_99 (Nat.le_of_ble_eq_true rfl) ?_
        exact bs_X1_pull_b101
      · exact bs_X1_pull_b60
  · exact bs_X1_pull_b24
noncomputable def F_X1_pull : FF := mk_F 9 F_X1_pull_b0
theorem con_X1_pull : Con_ yX1_pull (ws_ yX1_pull cX1_pull 9 (some .int)) 6 134 F_X1_pull := Con_of (by decide +kernel) bs_X1_pull_b0
/-- LongerHalf.seed(I)Z -/
abbrev M_X1_seed : MM := (yX1_seed, cX1_seed, (some .boolean), 2, 41, 2, [])
theorem pd_X1_seed : (yX1_seed.cls ≠ "java/lang/invoke/MethodHandle" ∧ yX1_seed.cls ≠ "java/lang/invoke/VarHandle") ∧ (parseMethodDescriptor yX1_seed.desc).map (fun d => d.parameters.length) = some 1 := ⟨⟨by decide +kernel, by decide +kernel⟩, by decide +kernel⟩
noncomputable def F_X1_seed_b28 : KK OO :=
  op_call 2 (f_kd 10 F_X1_yes) kx_no <| op_ine (op_ald 0 <| op_gfr [10] 9 <| op_ild 1 <| op_pfi .int [13] 43 <| op_push (.int 1) <| op_iret .boolean) (op_push (.int 0) <| op_iret .boolean)
theorem bs_X1_seed_b28 : B_S M_X1_seed 28 (F_X1_seed_b28) z_O k_O := by
  unfold F_X1_seed_b28
  refine BS_call (run_V dX1_seed_28 con_X1_yes (ci := 0) rfl rfl q1523 q1525 qs55 q136 q1526 pd_X1_yes ⟨Nat.le_of_ble_eq_true rfl, Nat.le_of_ble_eq_true rfl⟩) BV_no ?_
  refine BS_if_ne (tgt := 36) dX1_seed_31 (by decide) ?_ ?_
  · refine BS_aload_n dX1_seed_36 rfl ?_
    refine BS_gfr f_X1_33 dX1_seed_37 ?_
    refine BS_iload_n dX1_seed_40 rfl ?_
    refine BS_pfi p_X1_394 (fun h => by cases h) dX1_seed_41 ?_
    refine BS_iconst dX1_seed_44 (by decide) ?_
    exact BS_ireturn dX1_seed_45 rfl
  · refine BS_iconst dX1_seed_34 (by decide) ?_
    exact BS_ireturn dX1_seed_35 rfl
noncomputable def F_X1_seed_b0 : KK OO :=
  op_ald 0 <| op_ald 0 <| op_gfr [10] 3 <| op_ifnn (op_ild 1 <| op_push (.int 0) <| op_push (.int 65536) <| op_call 3 F_X1_in kx_no <| op_ieq (op_push (.int 2) <| F_X1_seed_b28) (op_push (.int 0) <| F_X1_seed_b28)) (op_push (.int 1) <| F_X1_seed_b28)
theorem bs_X1_seed_b0 : B_S M_X1_seed 0 (F_X1_seed_b0) z_O k_O := by
  unfold F_X1_seed_b0
  refine BS_aload_n dX1_seed_0 rfl ?_
  refine BS_aload_n dX1_seed_1 rfl ?_
  refine BS_gfr f_X1_108 dX1_seed_2 ?_
  refine BS_ifnonnull (tgt := 12) dX1_seed_5 (by decide) ?_ ?_
  · refine BS_iload_n dX1_seed_12 rfl ?_
    refine BS_iconst dX1_seed_13 (by decide) ?_
    refine BS_ldcw dX1_seed_14 q1500 ?_
    refine BS_call (run_S dX1_seed_17 con_X1_in q499 q500 q136 q501 pd_X1_in ⟨Nat.le_of_ble_eq_true rfl, Nat.le_of_ble_eq_true rfl⟩) BV_no ?_
    refine BS_if_eq (tgt := 27) dX1_seed_20 (by decide) ?_ ?_
    · refine BS_iconst dX1_seed_27 (by decide) ?_
      exact bs_X1_seed_b28
    · refine BS_iconst dX1_seed_23 (by decide) ?_
      refine BS_goto (tgt := 28) dX1_seed_24 (by decide) ?_
      exact bs_X1_seed_b28
  · refine BS_iconst dX1_seed_8 (by decide) ?_
    refine BS_goto (tgt := 28) dX1_seed_9 (by decide) ?_
    exact bs_X1_seed_b28
noncomputable def F_X1_seed : FF := mk_F 2 F_X1_seed_b0
theorem con_X1_seed : Con_ yX1_seed (ws_ yX1_seed cX1_seed 2 (some .boolean)) 2 41 F_X1_seed := Con_of (by decide +kernel) bs_X1_seed_b0
/-- LongerHalf.undo()Z -/
abbrev M_X1_undo : MM := (yX1_undo, cX1_undo, (some .boolean), 2, 81, 1, [])
theorem pd_X1_undo : (yX1_undo.cls ≠ "java/lang/invoke/MethodHandle" ∧ yX1_undo.cls ≠ "java/lang/invoke/VarHandle") ∧ (parseMethodDescriptor yX1_undo.desc).map (fun d => d.parameters.length) = some 0 := ⟨⟨by decide +kernel, by decide +kernel⟩, by decide +kernel⟩
noncomputable def F_X1_undo_b14 : KK OO :=
  op_call 2 (f_kd 10 F_X1_yes) kx_no <| op_ine (op_ald 0 <| op_dup <| op_gfi [10] 8 <| op_push (.int 1) <| op_i2 (fun x y => x - y) <| op_pfi .int [10] 8 <| op_ald 0 <| op_gfr [10] 9 <| op_ald 0 <| op_gfr [10] 15 <| op_ald 0 <| op_gfi [10] 8 <| op_aald 7 <| op_call 2 (f_kd 13 F_X4_become) kx_no <| op_push (.int 1) <| op_iret .boolean) (op_push (.int 0) <| op_iret .boolean)
theorem bs_X1_undo_b14 : B_S M_X1_undo 14 (F_X1_undo_b14) z_O k_O := by
  unfold F_X1_undo_b14
  refine BS_call (run_V dX1_undo_14 con_X1_yes (ci := 0) rfl rfl q1523 q1525 qs55 q136 q1526 pd_X1_yes ⟨Nat.le_of_ble_eq_true rfl, Nat.le_of_ble_eq_true rfl⟩) BV_no ?_
  refine BS_if_ne (tgt := 22) dX1_undo_17 (by decide) ?_ ?_
  · refine BS_aload_n dX1_undo_22 rfl ?_
    refine BS_dup dX1_undo_23 ?_
    refine BS_gfi f_X1_122 dX1_undo_24 ?_
    refine BS_iconst dX1_undo_27 (by decide) ?_
    refine BS_isub dX1_undo_28 ?_
    refine BS_pfi p_X1_122 (fun h => by cases h) dX1_undo_29 ?_
    refine BS_aload_n dX1_undo_32 rfl ?_
    refine BS_gfr f_X1_33 dX1_undo_33 ?_
    refine BS_aload_n dX1_undo_36 rfl ?_
    refine BS_gfr f_X1_66 dX1_undo_37 ?_
    refine BS_aload_n dX1_undo_40 rfl ?_
    refine BS_gfi f_X1_122 dX1_undo_41 ?_
    refine BS_aaload dX1_undo_44 (by decide) (by decide) (C := "LongerHalf$Drawer") rfl ?_
    refine BS_call (run_V dX1_undo_45 con_X4_become (ci := 3) rfl rfl q1531 q1532 q1533 q142 q1534 pd_X4_become ⟨Nat.le_of_ble_eq_true rfl, Nat.le_of_ble_eq_true rfl⟩) BV_no ?_
    refine BS_iconst dX1_undo_48 (by decide) ?_
    exact BS_ireturn dX1_undo_49 rfl
  · refine BS_iconst dX1_undo_20 (by decide) ?_
    exact BS_ireturn dX1_undo_21 rfl
noncomputable def F_X1_undo_b0 : KK OO :=
  op_ald 0 <| op_ald 0 <| op_gfi [10] 8 <| op_ine (op_push (.int 0) <| F_X1_undo_b14) (op_push (.int 6) <| F_X1_undo_b14)
theorem bs_X1_undo_b0 : B_S M_X1_undo 0 (F_X1_undo_b0) z_O k_O := by
  unfold F_X1_undo_b0
  refine BS_aload_n dX1_undo_0 rfl ?_
  refine BS_aload_n dX1_undo_1 rfl ?_
  refine BS_gfi f_X1_122 dX1_undo_2 ?_
  refine BS_if_ne (tgt := 13) dX1_undo_5 (by decide) ?_ ?_
  · refine BS_iconst dX1_undo_13 (by decide) ?_
    exact bs_X1_undo_b14
  · refine BS_bipush dX1_undo_8 (by decide) ?_
    refine BS_goto (tgt := 14) dX1_undo_10 (by decide) ?_
    exact bs_X1_undo_b14
noncomputable def F_X1_undo : FF := mk_F 1 F_X1_undo_b0
theorem con_X1_undo : Con_ yX1_undo (ws_ yX1_undo cX1_undo 1 (some .boolean)) 2 81 F_X1_undo := Con_of (by decide +kernel) bs_X1_undo_b0
/-- LongerHalf.mark()I -/
abbrev M_X1_mark : MM := (yX1_mark, cX1_mark, (some .int), 2, 81, 1, [])
theorem pd_X1_mark : (yX1_mark.cls ≠ "java/lang/invoke/MethodHandle" ∧ yX1_mark.cls ≠ "java/lang/invoke/VarHandle") ∧ (parseMethodDescriptor yX1_mark.desc).map (fun d => d.parameters.length) = some 0 := ⟨⟨by decide +kernel, by decide +kernel⟩, by decide +kernel⟩
noncomputable def F_X1_mark_b0 : KK OO :=
  op_ald 0 <| op_call 1 (f_kd 10 F_X1_anew) kx_no <| op_ald 0 <| op_gfr [10] 3 <| op_ifnn (op_ald 0 <| op_gfi [10] 7 <| op_push (.int 3) <| op_cne (op_ald 0 <| op_gfr [10] 16 <| op_ald 0 <| op_gfi [10] 7 <| op_aald 7 <| op_ald 0 <| op_gfr [10] 9 <| op_call 2 (f_kd 13 F_X4_become) kx_no <| op_ald 0 <| op_dup <| op_gfi [10] 7 <| op_push (.int 1) <| op_i2 (fun x y => x + y) <| op_pfi .int [10] 7 <| op_ald 0 <| op_gfi [10] 7 <| op_push (.int 1) <| op_i2 (fun x y => x - y) <| op_iret .int) (op_ald 0 <| op_push (.int 3) <| op_call 2 (f_kd 10 F_X1_no) kx_no <| op_iret .int)) (op_ald 0 <| op_push (.int 1) <| op_call 2 (f_kd 10 F_X1_no) kx_no <| op_iret .int)
theorem bs_X1_mark_b0 : B_S M_X1_mark 0 (F_X1_mark_b0) z_O k_O := by
  unfold F_X1_mark_b0
  refine BS_aload_n dX1_mark_0 rfl ?_
  refine BS_call (run_V dX1_mark_1 con_X1_anew (ci := 0) rfl rfl q495 q497 qs2 q136 q498 pd_X1_anew ⟨Nat.le_of_ble_eq_true rfl, Nat.le_of_ble_eq_true rfl⟩) BV_no ?_
  refine BS_aload_n dX1_mark_4 rfl ?_
  refine BS_gfr f_X1_108 dX1_mark_5 ?_
  refine BS_ifnonnull (tgt := 17) dX1_mark_8 (by decide) ?_ ?_
  · refine BS_aload_n dX1_mark_17 rfl ?_
    refine BS_gfi f_X1_125 dX1_mark_18 ?_
    refine BS_iconst dX1_mark_21 (by decide) ?_
    refine BS_icmp_ne (tgt := 31) dX1_mark_22 (by decide) ?_ ?_
    · refine BS_aload_n dX1_mark_31 rfl ?_
      refine BS_gfr f_X1_70 dX1_mark_32 ?_
      refine BS_aload_n dX1_mark_35 rfl ?_
      refine BS_gfi f_X1_125 dX1_mark_36 ?_
      refine BS_aaload dX1_mark_39 (by decide) (by decide) (C := "LongerHalf$Drawer") rfl ?_
      refine BS_aload_n dX1_mark_40 rfl ?_
      refine BS_gfr f_X1_33 dX1_mark_41 ?_
      refine BS_call (run_V dX1_mark_44 con_X4_become (ci := 3) rfl rfl q1531 q1532 q1533 q142 q1534 pd_X4_become ⟨Nat.le_of_ble_eq_true rfl, Nat.le_of_ble_eq_true rfl⟩) BV_no ?_
      refine BS_aload_n dX1_mark_47 rfl ?_
      refine BS_dup dX1_mark_48 ?_
      refine BS_gfi f_X1_125 dX1_mark_49 ?_
      refine BS_iconst dX1_mark_52 (by decide) ?_
      refine BS_iadd dX1_mark_53 ?_
      refine BS_pfi p_X1_125 (fun h => by cases h) dX1_mark_54 ?_
      refine BS_aload_n dX1_mark_57 rfl ?_
      refine BS_gfi f_X1_125 dX1_mark_58 ?_
      refine BS_iconst dX1_mark_61 (by decide) ?_
      refine BS_isub dX1_mark_62 ?_
      exact BS_ireturn dX1_mark_63 rfl
    · refine BS_aload_n dX1_mark_25 rfl ?_
      refine BS_iconst dX1_mark_26 (by decide) ?_
      refine BS_call (run_V dX1_mark_27 con_X1_no (ci := 0) rfl rfl q502 q504 qs3 q136 q505 pd_X1_no ⟨Nat.le_of_ble_eq_true rfl, Nat.le_of_ble_eq_true rfl⟩) BV_no ?_
      exact BS_ireturn dX1_mark_30 rfl
  · refine BS_aload_n dX1_mark_11 rfl ?_
    refine BS_iconst dX1_mark_12 (by decide) ?_
    refine BS_call (run_V dX1_mark_13 con_X1_no (ci := 0) rfl rfl q502 q504 qs3 q136 q505 pd_X1_no ⟨Nat.le_of_ble_eq_true rfl, Nat.le_of_ble_eq_true rfl⟩) BV_no ?_
    exact BS_ireturn dX1_mark_16 rfl
noncomputable def F_X1_mark : FF := mk_F 1 F_X1_mark_b0
theorem con_X1_mark : Con_ yX1_mark (ws_ yX1_mark cX1_mark 1 (some .int)) 2 81 F_X1_mark := Con_of (by decide +kernel) bs_X1_mark_b0
/-- LongerHalf.back(I)Z -/
abbrev M_X1_back : MM := (yX1_back, cX1_back, (some .boolean), 2, 81, 2, [])
theorem pd_X1_back : (yX1_back.cls ≠ "java/lang/invoke/MethodHandle" ∧ yX1_back.cls ≠ "java/lang/invoke/VarHandle") ∧ (parseMethodDescriptor yX1_back.desc).map (fun d => d.parameters.length) = some 1 := ⟨⟨by decide +kernel, by decide +kernel⟩, by decide +kernel⟩
noncomputable def F_X1_back_b20 : KK OO :=
  op_call 2 (f_kd 10 F_X1_yes) kx_no <| op_ine (op_ald 0 <| op_gfr [10] 9 <| op_ald 0 <| op_gfr [10] 16 <| op_ild 1 <| op_aald 7 <| op_call 2 (f_kd 13 F_X4_become) kx_no <| op_ald 0 <| op_push (.int 0) <| op_pfi .int [10] 8 <| op_push (.int 1) <| op_iret .boolean) (op_push (.int 0) <| op_iret .boolean)
theorem bs_X1_back_b20 : B_S M_X1_back 20 (F_X1_back_b20) z_O k_O := by
  unfold F_X1_back_b20
  refine BS_call (run_V dX1_back_20 con_X1_yes (ci := 0) rfl rfl q1523 q1525 qs55 q136 q1526 pd_X1_yes ⟨Nat.le_of_ble_eq_true rfl, Nat.le_of_ble_eq_true rfl⟩) BV_no ?_
  refine BS_if_ne (tgt := 28) dX1_back_23 (by decide) ?_ ?_
  · refine BS_aload_n dX1_back_28 rfl ?_
    refine BS_gfr f_X1_33 dX1_back_29 ?_
    refine BS_aload_n dX1_back_32 rfl ?_
    refine BS_gfr f_X1_70 dX1_back_33 ?_
    refine BS_iload_n dX1_back_36 rfl ?_
    refine BS_aaload dX1_back_37 (by decide) (by decide) (C := "LongerHalf$Drawer") rfl ?_
    refine BS_call (run_V dX1_back_38 con_X4_become (ci := 3) rfl rfl q1531 q1532 q1533 q142 q1534 pd_X4_become ⟨Nat.le_of_ble_eq_true rfl, Nat.le_of_ble_eq_true rfl⟩) BV_no ?_
    refine BS_aload_n dX1_back_41 rfl ?_
    refine BS_iconst dX1_back_42 (by decide) ?_
    refine BS_pfi p_X1_122 (fun h => by cases h) dX1_back_43 ?_
    refine BS_iconst dX1_back_46 (by decide) ?_
    exact BS_ireturn dX1_back_47 rfl
  · refine BS_iconst dX1_back_26 (by decide) ?_
    exact BS_ireturn dX1_back_27 rfl
noncomputable def F_X1_back_b0 : KK OO :=
  op_ald 0 <| op_ild 1 <| op_push (.int 0) <| op_ald 0 <| op_gfi [10] 7 <| op_push (.int 1) <| op_i2 (fun x y => x - y) <| op_call 3 F_X1_in kx_no <| op_ieq (op_push (.int 1) <| F_X1_back_b20) (op_push (.int 0) <| F_X1_back_b20)
theorem bs_X1_back_b0 : B_S M_X1_back 0 (F_X1_back_b0) z_O k_O := by
  unfold F_X1_back_b0
  refine BS_aload_n dX1_back_0 rfl ?_
  refine BS_iload_n dX1_back_1 rfl ?_
  refine BS_iconst dX1_back_2 (by decide) ?_
  refine BS_aload_n dX1_back_3 rfl ?_
  refine BS_gfi f_X1_125 dX1_back_4 ?_
  refine BS_iconst dX1_back_7 (by decide) ?_
  refine BS_isub dX1_back_8 ?_
  refine BS_call (run_S dX1_back_9 con_X1_in q499 q500 q136 q501 pd_X1_in ⟨Nat.le_of_ble_eq_true rfl, Nat.le_of_ble_eq_true rfl⟩) BV_no ?_
  refine BS_if_eq (tgt := 19) dX1_back_12 (by decide) ?_ ?_
  · refine BS_iconst dX1_back_19 (by decide) ?_
    exact bs_X1_back_b20
  · refine BS_iconst dX1_back_15 (by decide) ?_
    refine BS_goto (tgt := 20) dX1_back_16 (by decide) ?_
    exact bs_X1_back_b20
noncomputable def F_X1_back : FF := mk_F 2 F_X1_back_b0
theorem con_X1_back : Con_ yX1_back (ws_ yX1_back cX1_back 2 (some .boolean)) 2 81 F_X1_back := Con_of (by decide +kernel) bs_X1_back_b0
/-- LongerHalf.size(I)I -/
abbrev M_X1_size : MM := (yX1_size, cX1_size, (some .int), 1, 22, 2, [])
theorem pd_X1_size : (yX1_size.cls ≠ "java/lang/invoke/MethodHandle" ∧ yX1_size.cls ≠ "java/lang/invoke/VarHandle") ∧ (parseMethodDescriptor yX1_size.desc).map (fun d => d.parameters.length) = some 1 := ⟨⟨by decide +kernel, by decide +kernel⟩, by decide +kernel⟩
noncomputable def F_X1_size_b198 : KK OO :=
  op_push (.int (-1)) <| op_iret .int
theorem bs_X1_size_b198 : B_S M_X1_size 198 (F_X1_size_b198) z_O k_O := by
  unfold F_X1_size_b198
  refine BS_iconst dX1_size_198 (by decide) ?_
  exact BS_ireturn dX1_size_199 rfl
noncomputable def F_X1_size_b100 : KK OO :=
  op_ald 0 <| op_gfr [10] 3 <| op_gfi [17] 72 <| op_iret .int
theorem bs_X1_size_b100 : B_S M_X1_size 100 (F_X1_size_b100) z_O k_O := by
  unfold F_X1_size_b100
  refine BS_aload_n dX1_size_100 rfl ?_
  refine BS_gfr f_X1_108 dX1_size_101 ?_
  refine BS_gfi f_X1_424 dX1_size_104 ?_
  exact BS_ireturn dX1_size_107 rfl
noncomputable def F_X1_size_b108 : KK OO :=
  op_ald 0 <| op_gfr [10] 3 <| op_gfi [17] 73 <| op_iret .int
theorem bs_X1_size_b108 : B_S M_X1_size 108 (F_X1_size_b108) z_O k_O := by
  unfold F_X1_size_b108
  refine BS_aload_n dX1_size_108 rfl ?_
  refine BS_gfr f_X1_108 dX1_size_109 ?_
  refine BS_gfi f_X1_427 dX1_size_112 ?_
  exact BS_ireturn dX1_size_115 rfl
noncomputable def F_X1_size_b116 : KK OO :=
  op_ald 0 <| op_gfr [10] 3 <| op_gfi [17] 74 <| op_iret .int
theorem bs_X1_size_b116 : B_S M_X1_size 116 (F_X1_size_b116) z_O k_O := by
  unfold F_X1_size_b116
  refine BS_aload_n dX1_size_116 rfl ?_
  refine BS_gfr f_X1_108 dX1_size_117 ?_
  refine BS_gfi f_X1_430 dX1_size_120 ?_
  exact BS_ireturn dX1_size_123 rfl
noncomputable def F_X1_size_b124 : KK OO :=
  op_ald 0 <| op_gfr [10] 3 <| op_gfi [17] 75 <| op_iret .int
theorem bs_X1_size_b124 : B_S M_X1_size 124 (F_X1_size_b124) z_O k_O := by
  unfold F_X1_size_b124
  refine BS_aload_n dX1_size_124 rfl ?_
  refine BS_gfr f_X1_108 dX1_size_125 ?_
  refine BS_gfi f_X1_433 dX1_size_128 ?_
  exact BS_ireturn dX1_size_131 rfl
noncomputable def F_X1_size_b132 : KK OO :=
  op_ald 0 <| op_gfr [10] 3 <| op_gfi [17] 76 <| op_iret .int
theorem bs_X1_size_b132 : B_S M_X1_size 132 (F_X1_size_b132) z_O k_O := by
  unfold F_X1_size_b132
  refine BS_aload_n dX1_size_132 rfl ?_
  refine BS_gfr f_X1_108 dX1_size_133 ?_
  refine BS_gfi f_X1_385 dX1_size_136 ?_
  exact BS_ireturn dX1_size_139 rfl
noncomputable def F_X1_size_b140 : KK OO :=
  op_ald 0 <| op_gfr [10] 3 <| op_gfi [17] 77 <| op_iret .int
theorem bs_X1_size_b140 : B_S M_X1_size 140 (F_X1_size_b140) z_O k_O := by
  unfold F_X1_size_b140
  refine BS_aload_n dX1_size_140 rfl ?_
  refine BS_gfr f_X1_108 dX1_size_141 ?_
  refine BS_gfi f_X1_128 dX1_size_144 ?_
  exact BS_ireturn dX1_size_147 rfl
noncomputable def F_X1_size_b148 : KK OO :=
  op_ald 0 <| op_gfr [10] 3 <| op_gfi [17] 78 <| op_iret .int
theorem bs_X1_size_b148 : B_S M_X1_size 148 (F_X1_size_b148) z_O k_O := by
  unfold F_X1_size_b148
  refine BS_aload_n dX1_size_148 rfl ?_
  refine BS_gfr f_X1_108 dX1_size_149 ?_
  refine BS_gfi f_X1_133 dX1_size_152 ?_
  exact BS_ireturn dX1_size_155 rfl
noncomputable def F_X1_size_b156 : KK OO :=
  op_ald 0 <| op_gfr [10] 3 <| op_gfi [17] 79 <| op_iret .int
theorem bs_X1_size_b156 : B_S M_X1_size 156 (F_X1_size_b156) z_O k_O := by
  unfold F_X1_size_b156
  refine BS_aload_n dX1_size_156 rfl ?_
  refine BS_gfr f_X1_108 dX1_size_157 ?_
  refine BS_gfi f_X1_434 dX1_size_160 ?_
  exact BS_ireturn dX1_size_163 rfl
noncomputable def F_X1_size_b164 : KK OO :=
  op_ald 0 <| op_gfr [10] 3 <| op_gfi [17] 80 <| op_iret .int
theorem bs_X1_size_b164 : B_S M_X1_size 164 (F_X1_size_b164) z_O k_O := by
  unfold F_X1_size_b164
  refine BS_aload_n dX1_size_164 rfl ?_
  refine BS_gfr f_X1_108 dX1_size_165 ?_
  refine BS_gfi f_X1_326 dX1_size_168 ?_
  exact BS_ireturn dX1_size_171 rfl
noncomputable def F_X1_size_b172 : KK OO :=
  op_ald 0 <| op_gfr [10] 3 <| op_gfi [17] 82 <| op_iret .int
theorem bs_X1_size_b172 : B_S M_X1_size 172 (F_X1_size_b172) z_O k_O := by
  unfold F_X1_size_b172
  refine BS_aload_n dX1_size_172 rfl ?_
  refine BS_gfr f_X1_108 dX1_size_173 ?_
  refine BS_gfi f_X1_360 dX1_size_176 ?_
  exact BS_ireturn dX1_size_179 rfl
noncomputable def F_X1_size_b180 : KK OO :=
  op_ald 0 <| op_gfr [10] 9 <| op_gfi [13] 43 <| op_iret .int
theorem bs_X1_size_b180 : B_S M_X1_size 180 (F_X1_size_b180) z_O k_O := by
  unfold F_X1_size_b180
  refine BS_aload_n dX1_size_180 rfl ?_
  refine BS_gfr f_X1_33 dX1_size_181 ?_
  refine BS_gfi f_X1_394 dX1_size_184 ?_
  exact BS_ireturn dX1_size_187 rfl
noncomputable def F_X1_size_b188 : KK OO :=
  op_ald 0 <| op_gfi [10] 8 <| op_iret .int
theorem bs_X1_size_b188 : B_S M_X1_size 188 (F_X1_size_b188) z_O k_O := by
  unfold F_X1_size_b188
  refine BS_aload_n dX1_size_188 rfl ?_
  refine BS_gfi f_X1_122 dX1_size_189 ?_
  exact BS_ireturn dX1_size_192 rfl
noncomputable def F_X1_size_b193 : KK OO :=
  op_ald 0 <| op_gfi [10] 7 <| op_iret .int
theorem bs_X1_size_b193 : B_S M_X1_size 193 (F_X1_size_b193) z_O k_O := by
  unfold F_X1_size_b193
  refine BS_aload_n dX1_size_193 rfl ?_
  refine BS_gfi f_X1_125 dX1_size_194 ?_
  exact BS_ireturn dX1_size_197 rfl
noncomputable def F_X1_size_b0 : KK OO :=
  op_ild 1 <| op_push (.int 13) <| op_cne (op_ald 0 <| op_gfr [10] 3 <| op_ifnn (op_ild 1 <| op_sw [((0), F_X1_size_b100), ((1), F_X1_size_b108), ((2), F_X1_size_b116), ((3), F_X1_size_b124), ((4), F_X1_size_b132), ((5), F_X1_size_b140), ((6), F_X1_size_b148), ((7), F_X1_size_b156), ((8), F_X1_size_b164), ((9), F_X1_size_b172), ((10), F_X1_size_b180), ((11), F_X1_size_b188), ((12), F_X1_size_b193)] (F_X1_size_b198)) (op_ild 1 <| op_push (.int 0) <| op_push (.int 12) <| op_call 3 F_X1_in kx_no <| op_ieq (op_push (.int (-1)) <| op_iret .int) (op_push (.int 0) <| op_iret .int))) (op_ald 0 <| op_gfi [10] 1 <| op_iret .int)
theorem bs_X1_size_b0 : B_S M_X1_size 0 (F_X1_size_b0) z_O k_O := by
  unfold F_X1_size_b0
  refine BS_iload_n dX1_size_0 rfl ?_
  refine BS_bipush dX1_size_1 (by decide) ?_
  refine BS_icmp_ne (tgt := 11) dX1_size_3 (by decide) ?_ ?_
  · refine BS_aload_n dX1_size_11 rfl ?_
    refine BS_gfr f_X1_108 dX1_size_12 ?_
    refine BS_ifnonnull (tgt := 34) dX1_size_15 (by decide) ?_ ?_
    · refine BS_iload_n dX1_size_34 rfl ?_
      refine BS_tsw dX1_size_35 (by decide) (td := 198) (by decide) ?_ ?_
      · exact bs_X1_size_b198
      · exact ⟨by decide, ⟨100, by decide, by
        exact bs_X1_size_b100⟩, ⟨by decide, ⟨108, by decide, by
        exact bs_X1_size_b108⟩, ⟨by decide, ⟨116, by decide, by
        exact bs_X1_size_b116⟩, ⟨by decide, ⟨124, by decide, by
        exact bs_X1_size_b124⟩, ⟨by decide, ⟨132, by decide, by
        exact bs_X1_size_b132⟩, ⟨by decide, ⟨140, by decide, by
        exact bs_X1_size_b140⟩, ⟨by decide, ⟨148, by decide, by
        exact bs_X1_size_b148⟩, ⟨by decide, ⟨156, by decide, by
        exact bs_X1_size_b156⟩, ⟨by decide, ⟨164, by decide, by
        exact bs_X1_size_b164⟩, ⟨by decide, ⟨172, by decide, by
        exact bs_X1_size_b172⟩, ⟨by decide, ⟨180, by decide, by
        exact bs_X1_size_b180⟩, ⟨by decide, ⟨188, by decide, by
        exact bs_X1_size_b188⟩, ⟨by decide, ⟨193, by decide, by
        exact bs_X1_size_b193⟩, trivial⟩⟩⟩⟩⟩⟩⟩⟩⟩⟩⟩⟩⟩
    · refine BS_iload_n dX1_size_18 rfl ?_
      refine BS_iconst dX1_size_19 (by decide) ?_
      refine BS_bipush dX1_size_20 (by decide) ?_
      refine BS_call (run_S dX1_size_22 con_X1_in q499 q500 q136 q501 pd_X1_in ⟨Nat.le_of_ble_eq_true rfl, Nat.le_of_ble_eq_true rfl⟩) BV_no ?_
      refine BS_if_eq (tgt := 32) dX1_size_25 (by decide) ?_ ?_
      · refine BS_iconst dX1_size_32 (by decide) ?_
        exact BS_ireturn dX1_size_33 rfl
      · refine BS_iconst dX1_size_28 (by decide) ?_
        refine BS_goto (tgt := 33) dX1_size_29 (by decide) ?_
        exact BS_ireturn dX1_size_33 rfl
  · refine BS_aload_n dX1_size_6 rfl ?_
    refine BS_gfi f_X1_86 dX1_size_7 ?_
    exact BS_ireturn dX1_size_10 rfl
noncomputable def F_X1_size : FF := mk_F 2 F_X1_size_b0
theorem con_X1_size : Con_ yX1_size (ws_ yX1_size cX1_size 2 (some .int)) 1 22 F_X1_size := Con_of (by decide +kernel) bs_X1_size_b0
/-- LongerHalf.trouble()I -/
abbrev M_X1_trouble : MM := (yX1_trouble, cX1_trouble, (some .int), 0, 0, 1, [])
theorem pd_X1_trouble : (yX1_trouble.cls ≠ "java/lang/invoke/MethodHandle" ∧ yX1_trouble.cls ≠ "java/lang/invoke/VarHandle") ∧ (parseMethodDescriptor yX1_trouble.desc).map (fun d => d.parameters.length) = some 0 := ⟨⟨by decide +kernel, by decide +kernel⟩, by decide +kernel⟩
noncomputable def F_X1_trouble_b0 : KK OO :=
  op_ald 0 <| op_gfi [10] 4 <| op_iret .int
theorem bs_X1_trouble_b0 : B_S M_X1_trouble 0 (F_X1_trouble_b0) z_O k_O := by
  unfold F_X1_trouble_b0
  refine BS_aload_n dX1_trouble_0 rfl ?_
  refine BS_gfi f_X1_80 dX1_trouble_1 ?_
  exact BS_ireturn dX1_trouble_4 rfl
noncomputable def F_X1_trouble : FF := mk_F 1 F_X1_trouble_b0
theorem con_X1_trouble : Con_ yX1_trouble (ws_ yX1_trouble cX1_trouble 1 (some .int)) 0 0 F_X1_trouble := Con_of (by decide +kernel) bs_X1_trouble_b0
