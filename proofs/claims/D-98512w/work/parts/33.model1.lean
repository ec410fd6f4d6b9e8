/-! printed by emit.py: the functions that the methods compute, and their contracts -/
set_option maxRecDepth 100000
/-- LongerHalfModel$Kitchen.<init>()V -/
abbrev M_X20_init : MM := (yX20_init, cX20_init, none, 1, 52, 1, [])
theorem pd_X20_init : (yX20_init.cls ≠ "java/lang/invoke/MethodHandle" ∧ yX20_init.cls ≠ "java/lang/invoke/VarHandle") ∧ (parseMethodDescriptor yX20_init.desc).map (fun d => d.parameters.length) = some 0 := ⟨⟨by decide +kernel, by decide +kernel⟩, by decide +kernel⟩
noncomputable def F_X20_init_b87 : KK OO :=
  op_pfr [26] 159 <| op_ald 0 <| op_push (.int 12) <| op_newa 1 <| op_pfr [26] 160 <| op_ald 0 <| op_push (.int 12) <| op_newa 1 <| op_pfr [26] 161 <| op_ald 0 <| op_push (.int 4) <| op_newa 1 <| op_pfr [26] 162 <| op_ald 0 <| op_push (.int 4) <| op_newa 1 <| op_pfr [26] 163 <| op_ald 0 <| op_push (.int 6) <| op_newa 1 <| op_pfr [26] 164 <| op_ald 0 <| op_push (.int 6) <| op_newa 1 <| op_pfr [26] 165 <| op_ald 0 <| op_push (.int 6) <| op_newa 1 <| op_pfr [26] 166 <| op_ald 0 <| op_push (.int 11) <| op_newa 5 <| op_pfr [26] 167 <| op_ald 0 <| op_push (.int 11) <| op_newa 4 <| op_pfr [26] 168 <| op_ald 0 <| op_push (.int 11) <| op_newa 1 <| op_pfr [26] 169 <| op_vret
theorem bs_X20_init_b87 : B_S M_X20_init 87 (F_X20_init_b87) z_O k_O := by
  unfold F_X20_init_b87
  refine BS_pfr p_X20_42 rfl (fun _ => rfl) dX20_init_87 ?_
  refine BS_aload_n dX20_init_90 rfl ?_
  refine BS_bipush dX20_init_91 (by decide) ?_
  refine BS_newarray_i dX20_init_93 ?_
  refine BS_pfr p_X20_45 rfl (fun _ => rfl) dX20_init_95 ?_
  refine BS_aload_n dX20_init_98 rfl ?_
  refine BS_bipush dX20_init_99 (by decide) ?_
  refine BS_newarray_i dX20_init_101 ?_
  refine BS_pfr p_X20_48 rfl (fun _ => rfl) dX20_init_103 ?_
  refine BS_aload_n dX20_init_106 rfl ?_
  refine BS_iconst dX20_init_107 (by decide) ?_
  refine BS_newarray_i dX20_init_108 ?_
  refine BS_pfr p_X20_51 rfl (fun _ => rfl) dX20_init_110 ?_
  refine BS_aload_n dX20_init_113 rfl ?_
  refine BS_iconst dX20_init_114 (by decide) ?_
  refine BS_newarray_i dX20_init_115 ?_
  refine BS_pfr p_X20_54 rfl (fun _ => rfl) dX20_init_117 ?_
  refine BS_aload_n dX20_init_120 rfl ?_
  refine BS_bipush dX20_init_121 (by decide) ?_
  refine BS_newarray_i dX20_init_123 ?_
  refine BS_pfr p_X20_57 rfl (fun _ => rfl) dX20_init_125 ?_
  refine BS_aload_n dX20_init_128 rfl ?_
  refine BS_bipush dX20_init_129 (by decide) ?_
  refine BS_newarray_i dX20_init_131 ?_
  refine BS_pfr p_X20_60 rfl (fun _ => rfl) dX20_init_133 ?_
  refine BS_aload_n dX20_init_136 rfl ?_
  refine BS_bipush dX20_init_137 (by decide) ?_
  refine BS_newarray_i dX20_init_139 ?_
  refine BS_pfr p_X20_63 rfl (fun _ => rfl) dX20_init_141 ?_
  refine BS_aload_n dX20_init_144 rfl ?_
  refine BS_bipush dX20_init_145 (by decide) ?_
  refine BS_newarray_l dX20_init_147 ?_
  refine BS_pfr p_X20_66 rfl (fun _ => rfl) dX20_init_149 ?_
  refine BS_aload_n dX20_init_152 rfl ?_
  refine BS_bipush dX20_init_153 (by decide) ?_
  refine BS_newarray_z dX20_init_155 ?_
  refine BS_pfr p_X20_70 rfl (fun _ => rfl) dX20_init_157 ?_
  refine BS_aload_n dX20_init_160 rfl ?_
  refine BS_bipush dX20_init_161 (by decide) ?_
  refine BS_newarray_i dX20_init_163 ?_
  refine BS_pfr p_X20_74 rfl (fun _ => rfl) dX20_init_165 ?_
  exact BS_return dX20_init_168 rfl
noncomputable def F_X20_init_b0 : KK OO :=
  op_ald 0 <| op_oinit <| op_ald 0 <| op_push (.int 5) <| op_newa 1 <| op_pfr [26] 149 <| op_ald 0 <| op_push (.int 5) <| op_newa 1 <| op_pfr [26] 150 <| op_ald 0 <| op_push (.int 10) <| op_newa 1 <| op_pfr [26] 151 <| op_ald 0 <| op_push (.int 60) <| op_newa 1 <| op_pfr [26] 152 <| op_ald 0 <| op_push (.int 6) <| op_newa 1 <| op_pfr [26] 153 <| op_ald 0 <| op_push (.int 6) <| op_newa 1 <| op_pfr [26] 154 <| op_ald 0 <| op_push (.int 6) <| op_newa 1 <| op_pfr [26] 155 <| op_ald 0 <| op_push (.int 6) <| op_newa 1 <| op_pfr [26] 156 <| op_ald 0 <| op_push (.int 6) <| op_newa 1 <| op_pfr [26] 157 <| op_ald 0 <| op_push (.int 6) <| op_newa 1 <| op_pfr [26] 158 <| op_ald 0 <| op_push (.int 12) <| op_newa 1 <| F_X20_init_b87
theorem bs_X20_init_b0 : B_S M_X20_init 0 (F_X20_init_b0) z_O k_O := by
  unfold F_X20_init_b0
  refine BS_aload_n dX20_init_0 rfl ?_
  refine BS_oinit dX20_init_1 q1758 q174 q175 (Nat.le_of_ble_eq_true rfl) (Nat.le_of_ble_eq_true rfl) ?_
  refine BS_aload_n dX20_init_4 rfl ?_
  refine BS_iconst dX20_init_5 (by decide) ?_
  refine BS_newarray_i dX20_init_6 ?_
  refine BS_pfr p_X20_9 rfl (fun _ => rfl) dX20_init_8 ?_
  refine BS_aload_n dX20_init_11 rfl ?_
  refine BS_iconst dX20_init_12 (by decide) ?_
  refine BS_newarray_i dX20_init_13 ?_
  refine BS_pfr p_X20_15 rfl (fun _ => rfl) dX20_init_15 ?_
  refine BS_aload_n dX20_init_18 rfl ?_
  refine BS_bipush dX20_init_19 (by decide) ?_
  refine BS_newarray_i dX20_init_21 ?_
  refine BS_pfr p_X20_18 rfl (fun _ => rfl) dX20_init_23 ?_
  refine BS_aload_n dX20_init_26 rfl ?_
  refine BS_bipush dX20_init_27 (by decide) ?_
  refine BS_newarray_i dX20_init_29 ?_
  refine BS_pfr p_X20_21 rfl (fun _ => rfl) dX20_init_31 ?_
  refine BS_aload_n dX20_init_34 rfl ?_
  refine BS_bipush dX20_init_35 (by decide) ?_
  refine BS_newarray_i dX20_init_37 ?_
  refine BS_pfr p_X20_24 rfl (fun _ => rfl) dX20_init_39 ?_
  refine BS_aload_n dX20_init_42 rfl ?_
  refine BS_bipush dX20_init_43 (by decide) ?_
  refine BS_newarray_i dX20_init_45 ?_
  refine BS_pfr p_X20_27 rfl (fun _ => rfl) dX20_init_47 ?_
  refine BS_aload_n dX20_init_50 rfl ?_
  refine BS_bipush dX20_init_51 (by decide) ?_
  refine BS_newarray_i dX20_init_53 ?_
  refine BS_pfr p_X20_30 rfl (fun _ => rfl) dX20_init_55 ?_
  refine BS_aload_n dX20_init_58 rfl ?_
  refine BS_bipush dX20_init_59 (by decide) ?_
  refine BS_newarray_i dX20_init_61 ?_
  refine BS_pfr p_X20_33 rfl (fun _ => rfl) dX20_init_63 ?_
  refine BS_aload_n dX20_init_66 rfl ?_
  refine BS_bipush dX20_init_67 (by decide) ?_
  refine BS_newarray_i dX20_init_69 ?_
  refine BS_pfr p_X20_36 rfl (fun _ => rfl) dX20_init_71 ?_
  refine BS_aload_n dX20_init_74 rfl ?_
  refine BS_bipush dX20_init_75 (by decide) ?_
  refine BS_newarray_i dX20_init_77 ?_
  refine BS_pfr p_X20_39 rfl (fun _ => rfl) dX20_init_79 ?_
  refine BS_aload_n dX20_init_82 rfl ?_
  refine BS_bipush dX20_init_83 (by decide) ?_
  refine BS_newarray_i dX20_init_85 ?_
  exact bs_X20_init_b87
noncomputable def F_X20_init : FF := mk_F 1 F_X20_init_b0
theorem con_X20_init : Con_ yX20_init (ws_ yX20_init cX20_init 1 none) 1 52 F_X20_init := Con_of (by decide +kernel) bs_X20_init_b0
/-- LongerHalfModel$Kitchen.find(J)I -/
abbrev M_X20_find : MM := (yX20_find, cX20_find, (some .int), 0, 0, 4, [])
theorem pd_X20_find : (yX20_find.cls ≠ "java/lang/invoke/MethodHandle" ∧ yX20_find.cls ≠ "java/lang/invoke/VarHandle") ∧ (parseMethodDescriptor yX20_find.desc).map (fun d => d.parameters.length) = some 1 := ⟨⟨by decide +kernel, by decide +kernel⟩, by decide +kernel⟩
noncomputable def F_X20_find_l2 : KK (L_S ⊕ OO) :=
  op_ild 3 <| op_ald 0 <| op_gfi [26] 147 <| op_cge (op_exit <| op_push (.int (-1)) <| op_iret .int) (op_ald 0 <| op_gfr [26] 167 <| op_ild 3 <| op_lald <| op_lld 1 <| op_lcmp <| op_ine (op_iinc 3 1 <| op_back) (op_exit <| op_ild 3 <| op_iret .int))
theorem bs_X20_find_l2 : B_S M_X20_find 2 (F_X20_find_l2) (z_L z_O) (k_L 2 k_O) := by
  unfold F_X20_find_l2
  refine BS_iload_n dX20_find_2 rfl ?_
  refine BS_aload_n dX20_find_3 rfl ?_
  refine BS_gfi f_X20_77 dX20_find_4 ?_
  refine BS_icmp_ge (tgt := 29) dX20_find_7 (by decide) ?_ ?_
  · refine BS_exit ?_
    refine BS_iconst dX20_find_29 (by decide) ?_
    exact BS_ireturn dX20_find_30 rfl
  · refine BS_aload_n dX20_find_10 rfl ?_
    refine BS_gfr f_X20_66 dX20_find_11 ?_
    refine BS_iload_n dX20_find_14 rfl ?_
    refine BS_laload dX20_find_15 ?_
    refine BS_lload_n dX20_find_16 rfl ?_
    refine BS_lcmp dX20_find_17 ?_
    refine BS_if_ne (tgt := 23) dX20_find_18 (by decide) ?_ ?_
    · refine BS_iinc dX20_find_23 (by decide) (Nat.le_of_ble_eq_true rfl) ?_
      refine BS_goto (tgt := 2) dX20_find_26 (by decide) ?_
      exact BS_back
    · refine BS_exit ?_
      refine BS_iload_n dX20_find_21 rfl ?_
      exact BS_ireturn dX20_find_22 rfl
noncomputable def F_X20_find_b2 : KK OO := op_loop (F_X20_find_l2)
theorem bs_X20_find_b2 : B_S M_X20_find 2 (F_X20_find_b2) z_O k_O := BS_loop (bs_X20_find_l2)
noncomputable def F_X20_find_b0 : KK OO :=
  op_push (.int 0) <| op_ist 3 <| F_X20_find_b2
theorem bs_X20_find_b0 : B_S M_X20_find 0 (F_X20_find_b0) z_O k_O := by
  unfold F_X20_find_b0
  refine BS_iconst dX20_find_0 (by decide) ?_
  refine BS_istore_n dX20_find_1 rfl (Nat.le_of_ble_eq_true rfl) ?_
  exact bs_X20_find_b2
noncomputable def F_X20_find : FF := mk_F 4 F_X20_find_b0
theorem con_X20_find : Con_ yX20_find (ws_ yX20_find cX20_find 4 (some .int)) 0 0 F_X20_find := Con_of (by decide +kernel) bs_X20_find_b0
/-- LongerHalfModel$Kitchen.many(II)I -/
abbrev M_X20_many : MM := (yX20_many, cX20_many, (some .int), 0, 0, 3, [])
theorem pd_X20_many : (yX20_many.cls ≠ "java/lang/invoke/MethodHandle" ∧ yX20_many.cls ≠ "java/lang/invoke/VarHandle") ∧ (parseMethodDescriptor yX20_many.desc).map (fun d => d.parameters.length) = some 2 := ⟨⟨by decide +kernel, by decide +kernel⟩, by decide +kernel⟩
noncomputable def F_X20_many_b0 : KK OO :=
  op_ald 0 <| op_gfr [26] 151 <| op_push (.int 2) <| op_ild 1 <| op_i2 (fun x y => x * y) <| op_ild 2 <| op_i2 (fun x y => x + y) <| op_iald 1 <| op_iret .int
theorem bs_X20_many_b0 : B_S M_X20_many 0 (F_X20_many_b0) z_O k_O := by
  unfold F_X20_many_b0
  refine BS_aload_n dX20_many_0 rfl ?_
  refine BS_gfr f_X20_18 dX20_many_1 ?_
  refine BS_iconst dX20_many_4 (by decide) ?_
  refine BS_iload_n dX20_many_5 rfl ?_
  refine BS_imul dX20_many_6 ?_
  refine BS_iload_n dX20_many_7 rfl ?_
  refine BS_iadd dX20_many_8 ?_
  refine BS_iaload dX20_many_9 ?_
  exact BS_ireturn dX20_many_10 rfl
noncomputable def F_X20_many : FF := mk_F 3 F_X20_many_b0
theorem con_X20_many : Con_ yX20_many (ws_ yX20_many cX20_many 3 (some .int)) 0 0 F_X20_many := Con_of (by decide +kernel) bs_X20_many_b0
/-- LongerHalfModel$Kitchen.thickAt(III)I -/
abbrev M_X20_thickAt : MM := (yX20_thickAt, cX20_thickAt, (some .int), 0, 0, 4, [])
theorem pd_X20_thickAt : (yX20_thickAt.cls ≠ "java/lang/invoke/MethodHandle" ∧ yX20_thickAt.cls ≠ "java/lang/invoke/VarHandle") ∧ (parseMethodDescriptor yX20_thickAt.desc).map (fun d => d.parameters.length) = some 3 := ⟨⟨by decide +kernel, by decide +kernel⟩, by decide +kernel⟩
noncomputable def F_X20_thickAt_b0 : KK OO :=
  op_ald 0 <| op_gfr [26] 152 <| op_push (.int 6) <| op_push (.int 2) <| op_ild 1 <| op_i2 (fun x y => x * y) <| op_ild 2 <| op_i2 (fun x y => x + y) <| op_i2 (fun x y => x * y) <| op_ild 3 <| op_i2 (fun x y => x + y) <| op_iald 1 <| op_iret .int
theorem bs_X20_thickAt_b0 : B_S M_X20_thickAt 0 (F_X20_thickAt_b0) z_O k_O := by
  unfold F_X20_thickAt_b0
  refine BS_aload_n dX20_thickAt_0 rfl ?_
  refine BS_gfr f_X20_21 dX20_thickAt_1 ?_
  refine BS_bipush dX20_thickAt_4 (by decide) ?_
  refine BS_iconst dX20_thickAt_6 (by decide) ?_
  refine BS_iload_n dX20_thickAt_7 rfl ?_
  refine BS_imul dX20_thickAt_8 ?_
  refine BS_iload_n dX20_thickAt_9 rfl ?_
  refine BS_iadd dX20_thickAt_10 ?_
  refine BS_imul dX20_thickAt_11 ?_
  refine BS_iload_n dX20_thickAt_12 rfl ?_
  refine BS_iadd dX20_thickAt_13 ?_
  refine BS_iaload dX20_thickAt_14 ?_
  exact BS_ireturn dX20_thickAt_15 rfl
noncomputable def F_X20_thickAt : FF := mk_F 4 F_X20_thickAt_b0
theorem con_X20_thickAt : Con_ yX20_thickAt (ws_ yX20_thickAt cX20_thickAt 4 (some .int)) 0 0 F_X20_thickAt := Con_of (by decide +kernel) bs_X20_thickAt_b0
/-- LongerHalfModel$Kitchen.holds(III)I -/
abbrev M_X20_holds : MM := (yX20_holds, cX20_holds, (some .int), 1, 22, 4, [])
theorem pd_X20_holds : (yX20_holds.cls ≠ "java/lang/invoke/MethodHandle" ∧ yX20_holds.cls ≠ "java/lang/invoke/VarHandle") ∧ (parseMethodDescriptor yX20_holds.desc).map (fun d => d.parameters.length) = some 3 := ⟨⟨by decide +kernel, by decide +kernel⟩, by decide +kernel⟩
noncomputable def F_X20_holds_b0 : KK OO :=
  op_ald 0 <| op_gfr [26] 155 <| op_ild 1 <| op_iald 1 <| op_ald 0 <| op_ild 2 <| op_ild 3 <| op_call 3 (f_kd 26 F_X20_many) kx_no <| op_cge (op_ald 0 <| op_ild 2 <| op_ild 3 <| op_call 3 (f_kd 26 F_X20_many) kx_no <| op_iret .int) (op_ald 0 <| op_gfr [26] 155 <| op_ild 1 <| op_iald 1 <| op_iret .int)
theorem bs_X20_holds_b0 : B_S M_X20_holds 0 (F_X20_holds_b0) z_O k_O := by
  unfold F_X20_holds_b0
  refine BS_aload_n dX20_holds_0 rfl ?_
  refine BS_gfr f_X20_30 dX20_holds_1 ?_
  refine BS_iload_n dX20_holds_4 rfl ?_
  refine BS_iaload dX20_holds_5 ?_
  refine BS_aload_n dX20_holds_6 rfl ?_
  refine BS_iload_n dX20_holds_7 rfl ?_
  refine BS_iload_n dX20_holds_8 rfl ?_
  refine BS_call (run_V dX20_holds_9 con_X20_many (ci := 16) rfl rfl q2247 q2084 q2085 q163 q2086 pd_X20_many ⟨Nat.le_of_ble_eq_true rfl, Nat.le_of_ble_eq_true rfl⟩) BV_no ?_
  refine BS_icmp_ge (tgt := 24) dX20_holds_12 (by decide) ?_ ?_
  · refine BS_aload_n dX20_holds_24 rfl ?_
    refine BS_iload_n dX20_holds_25 rfl ?_
    refine BS_iload_n dX20_holds_26 rfl ?_
    refine BS_call (run_V dX20_holds_27 con_X20_many (ci := 16) rfl rfl q2247 q2084 q2085 q163 q2086 pd_X20_many ⟨Nat.le_of_ble_eq_true rfl, Nat.le_of_ble_eq_true rfl⟩) BV_no ?_
    exact BS_ireturn dX20_holds_30 rfl
  · refine BS_aload_n dX20_holds_15 rfl ?_
    refine BS_gfr f_X20_30 dX20_holds_16 ?_
    refine BS_iload_n dX20_holds_19 rfl ?_
    refine BS_iaload dX20_holds_20 ?_
    refine BS_goto (tgt := 30) dX20_holds_21 (by decide) ?_
    exact BS_ireturn dX20_holds_30 rfl
noncomputable def F_X20_holds : FF := mk_F 4 F_X20_holds_b0
theorem con_X20_holds : Con_ yX20_holds (ws_ yX20_holds cX20_holds 4 (some .int)) 1 22 F_X20_holds := Con_of (by decide +kernel) bs_X20_holds_b0
/-- LongerHalfModel.<init>()V -/
abbrev M_X8_init : MM := (yX8_init, cX8_init, none, 1, 52, 1, [])
theorem pd_X8_init : (yX8_init.cls ≠ "java/lang/invoke/MethodHandle" ∧ yX8_init.cls ≠ "java/lang/invoke/VarHandle") ∧ (parseMethodDescriptor yX8_init.desc).map (fun d => d.parameters.length) = some 0 := ⟨⟨by decide +kernel, by decide +kernel⟩, by decide +kernel⟩
noncomputable def F_X8_init_b90 : KK OO :=
  op_ald 0 <| op_push (.int 6) <| op_newa 1 <| op_pfr [25] 131 <| op_ald 0 <| op_push (.int 6) <| op_newa 1 <| op_pfr [25] 134 <| op_vret
theorem bs_X8_init_b90 : B_S M_X8_init 90 (F_X8_init_b90) z_O k_O := by
  unfold F_X8_init_b90
  refine BS_aload_n dX8_init_90 rfl ?_
  refine BS_bipush dX8_init_91 (by decide) ?_
  refine BS_newarray_i dX8_init_93 ?_
  refine BS_pfr p_X8_47 rfl (fun _ => rfl) dX8_init_95 ?_
  refine BS_aload_n dX8_init_98 rfl ?_
  refine BS_bipush dX8_init_99 (by decide) ?_
  refine BS_newarray_i dX8_init_101 ?_
  refine BS_pfr p_X8_50 rfl (fun _ => rfl) dX8_init_103 ?_
  exact BS_return dX8_init_106 rfl
noncomputable def F_X8_init_b0 : KK OO :=
  op_ald 0 <| op_oinit <| op_ald 0 <| op_push (.int (-1)) <| op_pfi .int [25] 100 <| op_ald 0 <| op_push (.int 1000) <| op_newa 2 <| op_pfr [25] 103 <| op_ald 0 <| op_push (.int 18) <| op_newa 1 <| op_pfr [25] 114 <| op_ald 0 <| op_push (.int 288) <| op_newa 1 <| op_pfr [25] 115 <| op_ald 0 <| op_push (.int 54) <| op_newa 1 <| op_pfr [25] 116 <| op_ald 0 <| op_push (.int 2) <| op_newa 1 <| op_pfr [25] 125 <| op_ald 0 <| op_push (.int 2) <| op_newa 1 <| op_pfr [25] 126 <| op_ald 0 <| op_push (.int 2) <| op_newa 4 <| op_pfr [25] 127 <| op_ald 0 <| op_push (.int 144) <| op_newa 5 <| op_pfr [25] 128 <| op_ald 0 <| op_push (.int 144) <| op_newa 5 <| op_pfr [25] 129 <| op_ald 0 <| op_push (.int 9) <| op_newa 1 <| op_pfr [25] 130 <| F_X8_init_b90
theorem bs_X8_init_b0 : B_S M_X8_init 0 (F_X8_init_b0) z_O k_O := by
  unfold F_X8_init_b0
  refine BS_aload_n dX8_init_0 rfl ?_
  refine BS_oinit dX8_init_1 q1617 q174 q175 (Nat.le_of_ble_eq_true rfl) (Nat.le_of_ble_eq_true rfl) ?_
  refine BS_aload_n dX8_init_4 rfl ?_
  refine BS_iconst dX8_init_5 (by decide) ?_
  refine BS_pfi p_X8_9 (fun h => by cases h) dX8_init_6 ?_
  refine BS_aload_n dX8_init_9 rfl ?_
  refine BS_sipush dX8_init_10 (by decide) ?_
  refine BS_newarray_b dX8_init_13 ?_
  refine BS_pfr p_X8_13 rfl (fun _ => rfl) dX8_init_15 ?_
  refine BS_aload_n dX8_init_18 rfl ?_
  refine BS_bipush dX8_init_19 (by decide) ?_
  refine BS_newarray_i dX8_init_21 ?_
  refine BS_pfr p_X8_17 rfl (fun _ => rfl) dX8_init_23 ?_
  refine BS_aload_n dX8_init_26 rfl ?_
  refine BS_sipush dX8_init_27 (by decide) ?_
  refine BS_newarray_i dX8_init_30 ?_
  refine BS_pfr p_X8_21 rfl (fun _ => rfl) dX8_init_32 ?_
  refine BS_aload_n dX8_init_35 rfl ?_
  refine BS_bipush dX8_init_36 (by decide) ?_
  refine BS_newarray_i dX8_init_38 ?_
  refine BS_pfr p_X8_24 rfl (fun _ => rfl) dX8_init_40 ?_
  refine BS_aload_n dX8_init_43 rfl ?_
  refine BS_iconst dX8_init_44 (by decide) ?_
  refine BS_newarray_i dX8_init_45 ?_
  refine BS_pfr p_X8_27 rfl (fun _ => rfl) dX8_init_47 ?_
  refine BS_aload_n dX8_init_50 rfl ?_
  refine BS_iconst dX8_init_51 (by decide) ?_
  refine BS_newarray_i dX8_init_52 ?_
  refine BS_pfr p_X8_30 rfl (fun _ => rfl) dX8_init_54 ?_
  refine BS_aload_n dX8_init_57 rfl ?_
  refine BS_iconst dX8_init_58 (by decide) ?_
  refine BS_newarray_z dX8_init_59 ?_
  refine BS_pfr p_X8_33 rfl (fun _ => rfl) dX8_init_61 ?_
  refine BS_aload_n dX8_init_64 rfl ?_
  refine BS_sipush dX8_init_65 (by decide) ?_
  refine BS_newarray_l dX8_init_68 ?_
  refine BS_pfr p_X8_37 rfl (fun _ => rfl) dX8_init_70 ?_
  refine BS_aload_n dX8_init_73 rfl ?_
  refine BS_sipush dX8_init_74 (by decide) ?_
  refine BS_newarray_l dX8_init_77 ?_
  refine BS_pfr p_X8_41 rfl (fun _ => rfl) dX8_init_79 ?_
  refine BS_aload_n dX8_init_82 rfl ?_
  refine BS_bipush dX8_init_83 (by decide) ?_
  refine BS_newarray_i dX8_init_85 ?_
  refine BS_pfr p_X8_44 rfl (fun _ => rfl) dX8_init_87 ?_
  exact bs_X8_init_b90
noncomputable def F_X8_init : FF := mk_F 1 F_X8_init_b0
theorem con_X8_init : Con_ yX8_init (ws_ yX8_init cX8_init 1 none) 1 52 F_X8_init := Con_of (by decide +kernel) bs_X8_init_b0
/-- LongerHalfModel.thrown()I -/
abbrev M_X8_thrown : MM := (yX8_thrown, cX8_thrown, (some .int), 0, 0, 1, [])
theorem pd_X8_thrown : (yX8_thrown.cls ≠ "java/lang/invoke/MethodHandle" ∧ yX8_thrown.cls ≠ "java/lang/invoke/VarHandle") ∧ (parseMethodDescriptor yX8_thrown.desc).map (fun d => d.parameters.length) = some 0 := ⟨⟨by decide +kernel, by decide +kernel⟩, by decide +kernel⟩
noncomputable def F_X8_thrown_b0 : KK OO :=
  op_ald 0 <| op_gfi [25] 98 <| op_iret .int
theorem bs_X8_thrown_b0 : B_S M_X8_thrown 0 (F_X8_thrown_b0) z_O k_O := by
  unfold F_X8_thrown_b0
  refine BS_aload_n dX8_thrown_0 rfl ?_
  refine BS_gfi f_X8_53 dX8_thrown_1 ?_
  exact BS_ireturn dX8_thrown_4 rfl
noncomputable def F_X8_thrown : FF := mk_F 1 F_X8_thrown_b0
theorem con_X8_thrown : Con_ yX8_thrown (ws_ yX8_thrown cX8_thrown 1 (some .int)) 0 0 F_X8_thrown := Con_of (by decide +kernel) bs_X8_thrown_b0
/-- LongerHalfModel.feed(IIIII)I -/
abbrev M_X8_feed : MM := (yX8_feed, cX8_feed, (some .int), 0, 0, 8, [])
theorem pd_X8_feed : (yX8_feed.cls ≠ "java/lang/invoke/MethodHandle" ∧ yX8_feed.cls ≠ "java/lang/invoke/VarHandle") ∧ (parseMethodDescriptor yX8_feed.desc).map (fun d => d.parameters.length) = some 5 := ⟨⟨by decide +kernel, by decide +kernel⟩, by decide +kernel⟩
noncomputable def F_X8_feed_b76 : KK (L_S ⊕ OO) :=
  op_ist 7 <| op_ald 0 <| op_gfr [25] 103 <| op_ald 0 <| op_gfi [25] 104 <| op_ild 7 <| op_push (.int 24) <| op_push (.int 8) <| op_ild 6 <| op_push (.int 4) <| op_i2d (fun x y => x - x / y * y) <| op_i2 (fun x y => x * y) <| op_i2 (fun x y => x - y) <| op_i2 (fun x y => x >>> (y &&& 31)) <| op_i1 (fun x => x.toInt8.toInt32) <| op_iast 2 .byte <| op_ald 0 <| op_dup <| op_gfi [25] 104 <| op_push (.int 1) <| op_i2 (fun x y => x + y) <| op_pfi .int [25] 104 <| op_iinc 6 1 <| op_back
theorem bs_X8_feed_b76 : B_S M_X8_feed 76 (F_X8_feed_b76) (z_L z_O) (k_L 23 k_O) := by
  unfold F_X8_feed_b76
  refine BS_istore dX8_feed_76 (Nat.le_of_ble_eq_true rfl) ?_
  refine BS_aload_n dX8_feed_78 rfl ?_
  refine BS_gfr f_X8_13 dX8_feed_79 ?_
  refine BS_aload_n dX8_feed_82 rfl ?_
  refine BS_gfi f_X8_366 dX8_feed_83 ?_
  refine BS_iload dX8_feed_86 ?_
  refine BS_bipush dX8_feed_88 (by decide) ?_
  refine BS_bipush dX8_feed_90 (by decide) ?_
  refine BS_iload dX8_feed_92 ?_
  refine BS_iconst dX8_feed_94 (by decide) ?_
  refine BS_irem dX8_feed_95 ?_
  refine BS_imul dX8_feed_96 ?_
  refine BS_isub dX8_feed_97 ?_
  refine BS_ishr dX8_feed_98 ?_
  refine BS_i2b dX8_feed_99 ?_
  refine BS_bastore dX8_feed_100 ?_
  refine BS_aload_n dX8_feed_101 rfl ?_
  refine BS_dup dX8_feed_102 ?_
  refine BS_gfi f_X8_366 dX8_feed_103 ?_
  refine BS_iconst dX8_feed_106 (by decide) ?_
  refine BS_iadd dX8_feed_107 ?_
  refine BS_pfi p_X8_366 (fun h => by cases h) dX8_feed_108 ?_
  refine BS_iinc dX8_feed_111 (by decide) (Nat.le_of_ble_eq_true rfl) ?_
  refine BS_goto (tgt := 23) dX8_feed_114 (by decide) ?_
  exact BS_back
noncomputable def F_X8_feed_l23 : KK (L_S ⊕ OO) :=
  op_ild 6 <| op_push (.int 20) <| op_cge (op_exit <| op_ald 0 <| op_gfi [25] 104 <| op_iret .int) (op_ild 6 <| op_push (.int 4) <| op_cge (op_ild 6 <| op_push (.int 8) <| op_cge (op_ild 6 <| op_push (.int 12) <| op_cge (op_ild 6 <| op_push (.int 16) <| op_cge (op_ild 5 <| F_X8_feed_b76) (op_ild 4 <| F_X8_feed_b76)) (op_ild 3 <| F_X8_feed_b76)) (op_ild 2 <| F_X8_feed_b76)) (op_ild 1 <| F_X8_feed_b76))
theorem bs_X8_feed_l23 : B_S M_X8_feed 23 (F_X8_feed_l23) (z_L z_O) (k_L 23 k_O) := by
  unfold F_X8_feed_l23
  refine BS_iload dX8_feed_23 ?_
  refine BS_bipush dX8_feed_25 (by decide) ?_
  refine BS_icmp_ge (tgt := 117) dX8_feed_27 (by decide) ?_ ?_
  · refine BS_exit ?_
    refine BS_aload_n dX8_feed_117 rfl ?_
    refine BS_gfi f_X8_366 dX8_feed_118 ?_
    exact BS_ireturn dX8_feed_121 rfl
  · refine BS_iload dX8_feed_30 ?_
    refine BS_iconst dX8_feed_32 (by decide) ?_
    refine BS_icmp_ge (tgt := 40) dX8_feed_33 (by decide) ?_ ?_
    · refine BS_iload dX8_feed_40 ?_
      refine BS_bipush dX8_feed_42 (by decide) ?_
      refine BS_icmp_ge (tgt := 51) dX8_feed_44 (by decide) ?_ ?_
      · refine BS_iload dX8_feed_51 ?_
        refine BS_bipush dX8_feed_53 (by decide) ?_
        refine BS_icmp_ge (tgt := 62) dX8_feed_55 (by decide) ?_ ?_
        · refine BS_iload dX8_feed_62 ?_
          refine BS_bipush dX8_feed_64 (by decide) ?_
          refine BS_icmp_ge (tgt := 74) dX8_feed_66 (by decide) ?_ ?_
          · refine BS_iload dX8_feed_74 ?_
            exact bs_X8_feed_b76
          · refine BS_iload dX8_feed_69 ?_
            refine BS_goto (tgt := 76) dX8_feed_71 (by decide) ?_
            exact bs_X8_feed_b76
        · refine BS_iload_n dX8_feed_58 rfl ?_
          refine BS_goto (tgt := 76) dX8_feed_59 (by decide) ?_
          exact bs_X8_feed_b76
      · refine BS_iload_n dX8_feed_47 rfl ?_
        refine BS_goto (tgt := 76) dX8_feed_48 (by decide) ?_
        exact bs_X8_feed_b76
    · refine BS_iload_n dX8_feed_36 rfl ?_
      refine BS_goto (tgt := 76) dX8_feed_37 (by decide) ?_
      exact bs_X8_feed_b76
noncomputable def F_X8_feed_b23 : KK OO := op_loop (F_X8_feed_l23)
theorem bs_X8_feed_b23 : B_S M_X8_feed 23 (F_X8_feed_b23) z_O k_O := BS_loop (bs_X8_feed_l23)
noncomputable def F_X8_feed_b0 : KK OO :=
  op_ald 0 <| op_push (.int 0) <| op_pfi .int [25] 98 <| op_ald 0 <| op_gfi [25] 104 <| op_push (.int 20) <| op_i2 (fun x y => x + y) <| op_push (.int 1000) <| op_cle (op_push (.int 0) <| op_ist 6 <| F_X8_feed_b23) (op_push (.int (-1)) <| op_iret .int)
theorem bs_X8_feed_b0 : B_S M_X8_feed 0 (F_X8_feed_b0) z_O k_O := by
  unfold F_X8_feed_b0
  refine BS_aload_n dX8_feed_0 rfl ?_
  refine BS_iconst dX8_feed_1 (by decide) ?_
  refine BS_pfi p_X8_53 (fun h => by cases h) dX8_feed_2 ?_
  refine BS_aload_n dX8_feed_5 rfl ?_
  refine BS_gfi f_X8_366 dX8_feed_6 ?_
  refine BS_bipush dX8_feed_9 (by decide) ?_
  refine BS_iadd dX8_feed_11 ?_
  refine BS_sipush dX8_feed_12 (by decide) ?_
  refine BS_icmp_le (tgt := 20) dX8_feed_15 (by decide) ?_ ?_
  · refine BS_iconst dX8_feed_20 (by decide) ?_
    refine BS_istore dX8_feed_21 (Nat.le_of_ble_eq_true rfl) ?_
    exact bs_X8_feed_b23
  · refine BS_iconst dX8_feed_18 (by decide) ?_
    exact BS_ireturn dX8_feed_19 rfl
noncomputable def F_X8_feed : FF := mk_F 8 F_X8_feed_b0
theorem con_X8_feed : Con_ yX8_feed (ws_ yX8_feed cX8_feed 8 (some .int)) 0 0 F_X8_feed := Con_of (by decide +kernel) bs_X8_feed_b0
/-- LongerHalfModel.byteAt(I)I -/
abbrev M_X8_byteAt : MM := (yX8_byteAt, cX8_byteAt, (some .int), 0, 0, 2, [])
theorem pd_X8_byteAt : (yX8_byteAt.cls ≠ "java/lang/invoke/MethodHandle" ∧ yX8_byteAt.cls ≠ "java/lang/invoke/VarHandle") ∧ (parseMethodDescriptor yX8_byteAt.desc).map (fun d => d.parameters.length) = some 1 := ⟨⟨by decide +kernel, by decide +kernel⟩, by decide +kernel⟩
noncomputable def F_X8_byteAt_b0 : KK OO :=
  op_ild 1 <| op_ald 0 <| op_gfi [25] 105 <| op_cge (op_push (.int (-1)) <| op_iret .int) (op_ald 0 <| op_gfr [25] 103 <| op_ild 1 <| op_iald 2 <| op_push (.int 255) <| op_i2 (fun x y => x &&& y) <| op_iret .int)
theorem bs_X8_byteAt_b0 : B_S M_X8_byteAt 0 (F_X8_byteAt_b0) z_O k_O := by
  unfold F_X8_byteAt_b0
  refine BS_iload_n dX8_byteAt_0 rfl ?_
  refine BS_aload_n dX8_byteAt_1 rfl ?_
  refine BS_gfi f_X8_70 dX8_byteAt_2 ?_
  refine BS_icmp_ge (tgt := 21) dX8_byteAt_5 (by decide) ?_ ?_
  · refine BS_iconst dX8_byteAt_21 (by decide) ?_
    exact BS_ireturn dX8_byteAt_22 rfl
  · refine BS_aload_n dX8_byteAt_8 rfl ?_
    refine BS_gfr f_X8_13 dX8_byteAt_9 ?_
    refine BS_iload_n dX8_byteAt_12 rfl ?_
    refine BS_baload dX8_byteAt_13 ?_
    refine BS_sipush dX8_byteAt_14 (by decide) ?_
    refine BS_iand dX8_byteAt_17 ?_
    refine BS_goto (tgt := 22) dX8_byteAt_18 (by decide) ?_
    exact BS_ireturn dX8_byteAt_22 rfl
noncomputable def F_X8_byteAt : FF := mk_F 2 F_X8_byteAt_b0
theorem con_X8_byteAt : Con_ yX8_byteAt (ws_ yX8_byteAt cX8_byteAt 2 (some .int)) 0 0 F_X8_byteAt := Con_of (by decide +kernel) bs_X8_byteAt_b0
/-- LongerHalfModel.isDigit(I)Z -/
abbrev M_X8_isDigit : MM := (yX8_isDigit, cX8_isDigit, (some .boolean), 0, 0, 1, [])
theorem pd_X8_isDigit : (yX8_isDigit.cls ≠ "java/lang/invoke/MethodHandle" ∧ yX8_isDigit.cls ≠ "java/lang/invoke/VarHandle") ∧ (parseMethodDescriptor yX8_isDigit.desc).map (fun d => d.parameters.length) = some 1 := ⟨⟨by decide +kernel, by decide +kernel⟩, by decide +kernel⟩
noncomputable def F_X8_isDigit_b0 : KK OO :=
  op_ild 0 <| op_push (.int 48) <| op_clt (op_push (.int 0) <| op_iret .boolean) (op_ild 0 <| op_push (.int 57) <| op_cgt (op_push (.int 0) <| op_iret .boolean) (op_push (.int 1) <| op_iret .boolean))
theorem bs_X8_isDigit_b0 : B_S M_X8_isDigit 0 (F_X8_isDigit_b0) z_O k_O := by
  unfold F_X8_isDigit_b0
  refine BS_iload_n dX8_isDigit_0 rfl ?_
  refine BS_bipush dX8_isDigit_1 (by decide) ?_
  refine BS_icmp_lt (tgt := 16) dX8_isDigit_3 (by decide) ?_ ?_
  · refine BS_iconst dX8_isDigit_16 (by decide) ?_
    exact BS_ireturn dX8_isDigit_17 rfl
  · refine BS_iload_n dX8_isDigit_6 rfl ?_
    refine BS_bipush dX8_isDigit_7 (by decide) ?_
    refine BS_icmp_gt (tgt := 16) dX8_isDigit_9 (by decide) ?_ ?_
    · refine BS_iconst dX8_isDigit_16 (by decide) ?_
      exact BS_ireturn dX8_isDigit_17 rfl
    · refine BS_iconst dX8_isDigit_12 (by decide) ?_
      refine BS_goto (tgt := 17) dX8_isDigit_13 (by decide) ?_
      exact BS_ireturn dX8_isDigit_17 rfl
noncomputable def F_X8_isDigit : FF := mk_F 1 F_X8_isDigit_b0
theorem con_X8_isDigit : Con_ yX8_isDigit (ws_ yX8_isDigit cX8_isDigit 1 (some .boolean)) 0 0 F_X8_isDigit := Con_of (by decide +kernel) bs_X8_isDigit_b0
/-- LongerHalfModel.isLetter(I)Z -/
abbrev M_X8_isLetter : MM := (yX8_isLetter, cX8_isLetter, (some .boolean), 0, 0, 1, [])
theorem pd_X8_isLetter : (yX8_isLetter.cls ≠ "java/lang/invoke/MethodHandle" ∧ yX8_isLetter.cls ≠ "java/lang/invoke/VarHandle") ∧ (parseMethodDescriptor yX8_isLetter.desc).map (fun d => d.parameters.length) = some 1 := ⟨⟨by decide +kernel, by decide +kernel⟩, by decide +kernel⟩
noncomputable def F_X8_isLetter_b0 : KK OO :=
  op_ild 0 <| op_push (.int 97) <| op_clt (op_push (.int 0) <| op_iret .boolean) (op_ild 0 <| op_push (.int 122) <| op_cgt (op_push (.int 0) <| op_iret .boolean) (op_push (.int 1) <| op_iret .boolean))
theorem bs_X8_isLetter_b0 : B_S M_X8_isLetter 0 (F_X8_isLetter_b0) z_O k_O := by
  unfold F_X8_isLetter_b0
  refine BS_iload_n dX8_isLetter_0 rfl ?_
  refine BS_bipush dX8_isLetter_1 (by decide) ?_
  refine BS_icmp_lt (tgt := 16) dX8_isLetter_3 (by decide) ?_ ?_
  · refine BS_iconst dX8_isLetter_16 (by decide) ?_
    exact BS_ireturn dX8_isLetter_17 rfl
  · refine BS_iload_n dX8_isLetter_6 rfl ?_
    refine BS_bipush dX8_isLetter_7 (by decide) ?_
    refine BS_icmp_gt (tgt := 16) dX8_isLetter_9 (by decide) ?_ ?_
    · refine BS_iconst dX8_isLetter_16 (by decide) ?_
      exact BS_ireturn dX8_isLetter_17 rfl
    · refine BS_iconst dX8_isLetter_12 (by decide) ?_
      refine BS_goto (tgt := 17) dX8_isLetter_13 (by decide) ?_
      exact BS_ireturn dX8_isLetter_17 rfl
noncomputable def F_X8_isLetter : FF := mk_F 1 F_X8_isLetter_b0
theorem con_X8_isLetter : Con_ yX8_isLetter (ws_ yX8_isLetter cX8_isLetter 1 (some .boolean)) 0 0 F_X8_isLetter := Con_of (by decide +kernel) bs_X8_isLetter_b0
/-- LongerHalfModel.goesOn()V -/
abbrev M_X8_goesOn : MM := (yX8_goesOn, cX8_goesOn, none, 1, 21, 3, [])
theorem pd_X8_goesOn : (yX8_goesOn.cls ≠ "java/lang/invoke/MethodHandle" ∧ yX8_goesOn.cls ≠ "java/lang/invoke/VarHandle") ∧ (parseMethodDescriptor yX8_goesOn.desc).map (fun d => d.parameters.length) = some 0 := ⟨⟨by decide +kernel, by decide +kernel⟩, by decide +kernel⟩
noncomputable def F_X8_goesOn_b261 : KK OO :=
  op_ald 0 <| op_push (.int 4) <| op_pfi .int [25] 107 <| op_ald 0 <| op_ild 1 <| op_pfi .int [25] 109 <| op_ald 0 <| op_dup <| op_gfi [25] 106 <| op_push (.int 1) <| op_i2 (fun x y => x + y) <| op_pfi .int [25] 106 <| op_vret
theorem bs_X8_goesOn_b261 : B_S M_X8_goesOn 261 (F_X8_goesOn_b261) z_O k_O := by
  unfold F_X8_goesOn_b261
  refine BS_aload_n dX8_goesOn_261 rfl ?_
  refine BS_iconst dX8_goesOn_262 (by decide) ?_
  refine BS_pfi p_X8_85 (fun h => by cases h) dX8_goesOn_263 ?_
  refine BS_aload_n dX8_goesOn_266 rfl ?_
  refine BS_iload_n dX8_goesOn_267 rfl ?_
  refine BS_pfi p_X8_97 (fun h => by cases h) dX8_goesOn_268 ?_
  refine BS_aload_n dX8_goesOn_271 rfl ?_
  refine BS_dup dX8_goesOn_272 ?_
  refine BS_gfi f_X8_88 dX8_goesOn_273 ?_
  refine BS_iconst dX8_goesOn_276 (by decide) ?_
  refine BS_iadd dX8_goesOn_277 ?_
  refine BS_pfi p_X8_88 (fun h => by cases h) dX8_goesOn_278 ?_
  exact BS_return dX8_goesOn_281 rfl
noncomputable def F_X8_goesOn_b220 : KK (L_S ⊕ OO) :=
  op_iinc 2 1 <| op_ald 0 <| op_dup <| op_gfi [25] 106 <| op_push (.int 1) <| op_i2 (fun x y => x + y) <| op_pfi .int [25] 106 <| op_back
theorem bs_X8_goesOn_b220 : B_S M_X8_goesOn 220 (F_X8_goesOn_b220) (z_L z_O) (k_L 178 k_O) := by
  unfold F_X8_goesOn_b220
  refine BS_iinc dX8_goesOn_220 (by decide) (Nat.le_of_ble_eq_true rfl) ?_
  refine BS_aload_n dX8_goesOn_223 rfl ?_
  refine BS_dup dX8_goesOn_224 ?_
  refine BS_gfi f_X8_88 dX8_goesOn_225 ?_
  refine BS_iconst dX8_goesOn_228 (by decide) ?_
  refine BS_iadd dX8_goesOn_229 ?_
  refine BS_pfi p_X8_88 (fun h => by cases h) dX8_goesOn_230 ?_
  refine BS_goto (tgt := 178) dX8_goesOn_233 (by decide) ?_
  exact BS_back
noncomputable def F_X8_goesOn_l178 : KK (L_S ⊕ OO) :=
  op_ald 0 <| op_ald 0 <| op_gfi [25] 106 <| op_call 2 (f_kd 25 F_X8_byteAt) kx_no <| op_call 1 F_X8_isDigit kx_no <| op_ieq (op_exit <| op_ild 2 <| op_push (.int 2) <| op_cgt (op_vret) (op_ald 0 <| op_push (.int 3) <| op_pfi .int [25] 107 <| op_vret)) (op_ild 2 <| op_push (.int 2) <| op_cge (F_X8_goesOn_b220) (op_ald 0 <| op_push (.int 10) <| op_ald 0 <| op_gfi [25] 110 <| op_i2 (fun x y => x * y) <| op_ald 0 <| op_ald 0 <| op_gfi [25] 106 <| op_call 2 (f_kd 25 F_X8_byteAt) kx_no <| op_i2 (fun x y => x + y) <| op_push (.int 48) <| op_i2 (fun x y => x - y) <| op_pfi .int [25] 110 <| F_X8_goesOn_b220))
theorem bs_X8_goesOn_l178 : B_S M_X8_goesOn 178 (F_X8_goesOn_l178) (z_L z_O) (k_L 178 k_O) := by
  unfold F_X8_goesOn_l178
  refine BS_aload_n dX8_goesOn_178 rfl ?_
  refine BS_aload_n dX8_goesOn_179 rfl ?_
  refine BS_gfi f_X8_88 dX8_goesOn_180 ?_
  refine BS_call (run_V dX8_goesOn_183 con_X8_byteAt (ci := 15) rfl rfl q1885 q1887 qs60 q146 q1888 pd_X8_byteAt ⟨Nat.le_of_ble_eq_true rfl, Nat.le_of_ble_eq_true rfl⟩) BV_no ?_
  refine BS_call (run_S dX8_goesOn_186 con_X8_isDigit q1893 q1894 q146 q1895 pd_X8_isDigit ⟨Nat.le_of_ble_eq_true rfl, Nat.le_of_ble_eq_true rfl⟩) BV_no ?_
  refine BS_if_eq (tgt := 236) dX8_goesOn_189 (by decide) ?_ ?_
  · refine BS_exit ?_
    refine BS_iload_n dX8_goesOn_236 rfl ?_
    refine BS_iconst dX8_goesOn_237 (by decide) ?_
    refine BS_icmp_gt (tgt := 281) dX8_goesOn_238 (by decide) ?_ ?_
    · exact BS_return dX8_goesOn_281 rfl
    · refine BS_aload_n dX8_goesOn_241 rfl ?_
      refine BS_iconst dX8_goesOn_242 (by decide) ?_
      refine BS_pfi p_X8_85 (fun h => by cases h) dX8_goesOn_243 ?_
      refine BS_goto (tgt := 281) dX8_goesOn_246 (by decide) ?_
      exact BS_return dX8_goesOn_281 rfl
  · refine BS_iload_n dX8_goesOn_192 rfl ?_
    refine BS_iconst dX8_goesOn_193 (by decide) ?_
    refine BS_icmp_ge (tgt := 220) dX8_goesOn_194 (by decide) ?_ ?_
    · exact bs_X8_goesOn_b220
    · refine BS_aload_n dX8_goesOn_197 rfl ?_
      refine BS_bipush dX8_goesOn_198 (by decide) ?_
      refine BS_aload_n dX8_goesOn_200 rfl ?_
      refine BS_gfi f_X8_111 dX8_goesOn_201 ?_
      refine BS_imul dX8_goesOn_204 ?_
      refine BS_aload_n dX8_goesOn_205 rfl ?_
      refine BS_aload_n dX8_goesOn_206 rfl ?_
      refine BS_gfi f_X8_88 dX8_goesOn_207 ?_
      refine BS_call (run_V dX8_goesOn_210 con_X8_byteAt (ci := 15) rfl rfl q1885 q1887 qs60 q146 q1888 pd_X8_byteAt ⟨Nat.le_of_ble_eq_true rfl, Nat.le_of_ble_eq_true rfl⟩) BV_no ?_
      refine BS_iadd dX8_goesOn_213 ?_
      refine BS_bipush dX8_goesOn_214 (by decide) ?_
      refine BS_isub dX8_goesOn_216 ?_
      refine BS_pfi p_X8_111 (fun h => by cases h) dX8_goesOn_217 ?_
      exact bs_X8_goesOn_b220
noncomputable def F_X8_goesOn_b178 : KK OO := op_loop (F_X8_goesOn_l178)
theorem bs_X8_goesOn_b178 : B_S M_X8_goesOn 178 (F_X8_goesOn_b178) z_O k_O := BS_loop (bs_X8_goesOn_l178)
noncomputable def F_X8_goesOn_b136 : KK (L_S ⊕ OO) :=
  op_iinc 2 1 <| op_ald 0 <| op_dup <| op_gfi [25] 106 <| op_push (.int 1) <| op_i2 (fun x y => x + y) <| op_pfi .int [25] 106 <| op_back
theorem bs_X8_goesOn_b136 : B_S M_X8_goesOn 136 (F_X8_goesOn_b136) (z_L z_O) (k_L 89 k_O) := by
  unfold F_X8_goesOn_b136
  refine BS_iinc dX8_goesOn_136 (by decide) (Nat.le_of_ble_eq_true rfl) ?_
  refine BS_aload_n dX8_goesOn_139 rfl ?_
  refine BS_dup dX8_goesOn_140 ?_
  refine BS_gfi f_X8_88 dX8_goesOn_141 ?_
  refine BS_iconst dX8_goesOn_144 (by decide) ?_
  refine BS_iadd dX8_goesOn_145 ?_
  refine BS_pfi p_X8_88 (fun h => by cases h) dX8_goesOn_146 ?_
  refine BS_goto (tgt := 89) dX8_goesOn_149 (by decide) ?_
  exact BS_back
noncomputable def F_X8_goesOn_l89 : KK (L_S ⊕ OO) :=
  op_ald 0 <| op_ald 0 <| op_gfi [25] 106 <| op_call 2 (f_kd 25 F_X8_byteAt) kx_no <| op_call 1 F_X8_isLetter kx_no <| op_ieq (op_exit <| op_ild 2 <| op_push (.int 8) <| op_cgt (op_vret) (op_ald 0 <| op_push (.int 2) <| op_pfi .int [25] 107 <| op_vret)) (op_ild 2 <| op_push (.int 8) <| op_cge (F_X8_goesOn_b136) (op_ald 0 <| op_push (.long 32) <| op_ald 0 <| op_gfl [25] 113 <| op_l2 (fun x y => x * y) <| op_ald 0 <| op_ald 0 <| op_gfi [25] 106 <| op_call 2 (f_kd 25 F_X8_byteAt) kx_no <| op_push (.int 97) <| op_i2 (fun x y => x - y) <| op_push (.int 1) <| op_i2 (fun x y => x + y) <| op_i2l <| op_l2 (fun x y => x + y) <| op_pfl [25] 113 <| F_X8_goesOn_b136))
theorem bs_X8_goesOn_l89 : B_S M_X8_goesOn 89 (F_X8_goesOn_l89) (z_L z_O) (k_L 89 k_O) := by
  unfold F_X8_goesOn_l89
  refine BS_aload_n dX8_goesOn_89 rfl ?_
  refine BS_aload_n dX8_goesOn_90 rfl ?_
  refine BS_gfi f_X8_88 dX8_goesOn_91 ?_
  refine BS_call (run_V dX8_goesOn_94 con_X8_byteAt (ci := 15) rfl rfl q1885 q1887 qs60 q146 q1888 pd_X8_byteAt ⟨Nat.le_of_ble_eq_true rfl, Nat.le_of_ble_eq_true rfl⟩) BV_no ?_
  refine BS_call (run_S dX8_goesOn_97 con_X8_isLetter q1889 q1890 q146 q1891 pd_X8_isLetter ⟨Nat.le_of_ble_eq_true rfl, Nat.le_of_ble_eq_true rfl⟩) BV_no ?_
  refine BS_if_eq (tgt := 152) dX8_goesOn_100 (by decide) ?_ ?_
  · refine BS_exit ?_
    refine BS_iload_n dX8_goesOn_152 rfl ?_
    refine BS_bipush dX8_goesOn_153 (by decide) ?_
    refine BS_icmp_gt (tgt := 281) dX8_goesOn_155 (by decide) ?_ ?_
    · exact BS_return dX8_goesOn_281 rfl
    · refine BS_aload_n dX8_goesOn_158 rfl ?_
      refine BS_iconst dX8_goesOn_159 (by decide) ?_
      refine BS_pfi p_X8_85 (fun h => by cases h) dX8_goesOn_160 ?_
      refine BS_goto (tgt := 281) dX8_goesOn_163 (by decide) ?_
      exact BS_return dX8_goesOn_281 rfl
  · refine BS_iload_n dX8_goesOn_103 rfl ?_
    refine BS_bipush dX8_goesOn_104 (by decide) ?_
    refine BS_icmp_ge (tgt := 136) dX8_goesOn_106 (by decide) ?_ ?_
    · exact bs_X8_goesOn_b136
    · refine BS_aload_n dX8_goesOn_109 rfl ?_
      refine BS_ldc2 dX8_goesOn_110 q1892 ?_
      refine BS_aload_n dX8_goesOn_113 rfl ?_
      refine BS_gfl f_X8_104 dX8_goesOn_114 ?_
      refine BS_lmul dX8_goesOn_117 ?_
      refine BS_aload_n dX8_goesOn_118 rfl ?_
      refine BS_aload_n dX8_goesOn_119 rfl ?_
      refine BS_gfi f_X8_88 dX8_goesOn_120 ?_
      refine BS_call (run_V dX8_goesOn_123 con_X8_byteAt (ci := 15) rfl rfl q1885 q1887 qs60 q146 q1888 pd_X8_byteAt ⟨Nat.le_of_ble_eq_true rfl, Nat.le_of_ble_eq_true rfl⟩) BV_no ?_
      refine BS_bipush dX8_goesOn_126 (by decide) ?_
      refine BS_isub dX8_goesOn_128 ?_
      refine BS_iconst dX8_goesOn_129 (by decide) ?_
      refine BS_iadd dX8_goesOn_130 ?_
      refine BS_i2l dX8_goesOn_131 ?_
      refine BS_ladd dX8_goesOn_132 ?_
      refine BS_pfl p_X8_104 (fun h => by cases h) dX8_goesOn_133 ?_
      exact bs_X8_goesOn_b136
noncomputable def F_X8_goesOn_b89 : KK OO := op_loop (F_X8_goesOn_l89)
theorem bs_X8_goesOn_b89 : B_S M_X8_goesOn 89 (F_X8_goesOn_b89) z_O k_O := BS_loop (bs_X8_goesOn_l89)
noncomputable def F_X8_goesOn_b69 : KK OO :=
  op_ald 0 <| op_push (.int 1) <| op_pfi .int [25] 107 <| op_vret
theorem bs_X8_goesOn_b69 : B_S M_X8_goesOn 69 (F_X8_goesOn_b69) z_O k_O := by
  unfold F_X8_goesOn_b69
  refine BS_aload_n dX8_goesOn_69 rfl ?_
  refine BS_iconst dX8_goesOn_70 (by decide) ?_
  refine BS_pfi p_X8_85 (fun h => by cases h) dX8_goesOn_71 ?_
  refine BS_goto (tgt := 281) dX8_goesOn_74 (by decide) ?_
  exact BS_return dX8_goesOn_281 rfl
noncomputable def F_X8_goesOn_b22 : KK (L_S ⊕ OO) :=
  op_ald 0 <| op_dup <| op_gfi [25] 106 <| op_push (.int 1) <| op_i2 (fun x y => x + y) <| op_pfi .int [25] 106 <| op_back
theorem bs_X8_goesOn_b22 : B_S M_X8_goesOn 22 (F_X8_goesOn_b22) (z_L z_O) (k_L 9 k_O) := by
  unfold F_X8_goesOn_b22
  refine BS_aload_n dX8_goesOn_22 rfl ?_
  refine BS_dup dX8_goesOn_23 ?_
  refine BS_gfi f_X8_88 dX8_goesOn_24 ?_
  refine BS_iconst dX8_goesOn_27 (by decide) ?_
  refine BS_iadd dX8_goesOn_28 ?_
  refine BS_pfi p_X8_88 (fun h => by cases h) dX8_goesOn_29 ?_
  refine BS_goto (tgt := 9) dX8_goesOn_32 (by decide) ?_
  exact BS_back
noncomputable def F_X8_goesOn_l9 : KK (L_S ⊕ OO) :=
  op_ald 0 <| op_ald 0 <| op_gfi [25] 106 <| op_call 2 (f_kd 25 F_X8_byteAt) kx_no <| op_push (.int 32) <| op_cne (op_exit <| op_ald 0 <| op_ald 0 <| op_gfi [25] 106 <| op_pfi .int [25] 108 <| op_ald 0 <| op_push (.int 0) <| op_pfi .int [25] 107 <| op_ald 0 <| op_push (.int 0) <| op_pfi .int [25] 109 <| op_ald 0 <| op_ald 0 <| op_gfi [25] 106 <| op_call 2 (f_kd 25 F_X8_byteAt) kx_no <| op_ist 1 <| op_push (.int 0) <| op_ist 2 <| op_ild 1 <| op_push (.int (-1)) <| op_cne (op_ild 1 <| op_call 1 F_X8_isLetter kx_no <| op_ieq (op_ild 1 <| op_call 1 F_X8_isDigit kx_no <| op_ieq (op_ild 1 <| op_push (.int 59) <| op_ceq (F_X8_goesOn_b261) (op_ild 1 <| op_push (.int 44) <| op_cne (op_vret) (F_X8_goesOn_b261))) (op_ald 0 <| op_push (.int 0) <| op_pfi .int [25] 110 <| F_X8_goesOn_b178)) (op_ald 0 <| op_push (.long 0) <| op_pfl [25] 113 <| F_X8_goesOn_b89)) (F_X8_goesOn_b69)) (F_X8_goesOn_b22)
theorem bs_X8_goesOn_l9 : B_S M_X8_goesOn 9 (F_X8_goesOn_l9) (z_L z_O) (k_L 9 k_O) := by
  unfold F_X8_goesOn_l9
  refine BS_aload_n dX8_goesOn_9 rfl ?_
  refine BS_aload_n dX8_goesOn_10 rfl ?_
  refine BS_gfi f_X8_88 dX8_goesOn_11 ?_
  refine BS_call (run_V dX8_goesOn_14 con_X8_byteAt (ci := 15) rfl rfl q1885 q1887 qs60 q146 q1888 pd_X8_byteAt ⟨Nat.le_of_ble_eq_true rfl, Nat.le_of_ble_eq_true rfl⟩) BV_no ?_
  refine BS_bipush dX8_goesOn_17 (by decide) ?_
  refine BS_icmp_ne (tgt := 35) dX8_goesOn_19 (by decide) ?_ ?_
  · refine BS_exit ?_
    refine BS_aload_n dX8_goesOn_35 rfl ?_
    refine BS_aload_n dX8_goesOn_36 rfl ?_
    refine BS_gfi f_X8_88 dX8_goesOn_37 ?_
    refine BS_pfi p_X8_94 (fun h => by cases h) dX8_goesOn_40 ?_
    refine BS_aload_n dX8_goesOn_43 rfl ?_
    refine BS_iconst dX8_goesOn_44 (by decide) ?_
    refine BS_pfi p_X8_85 (fun h => by cases h) dX8_goesOn_45 ?_
    refine BS_aload_n dX8_goesOn_48 rfl ?_
    refine BS_iconst dX8_goesOn_49 (by decide) ?_
    refine BS_pfi p_X8_97 (fun h => by cases h) dX8_goesOn_50 ?_
    refine BS_aload_n dX8_goesOn_53 rfl ?_
    refine BS_aload_n dX8_goesOn_54 rfl ?_
    refine BS_gfi f_X8_88 dX8_goesOn_55 ?_
    refine BS_call (run_V dX8_goesOn_58 con_X8_byteAt (ci := 15) rfl rfl q1885 q1887 qs60 q146 q1888 pd_X8_byteAt ⟨Nat.le_of_ble_eq_true rfl, Nat.le_of_ble_eq_true rfl⟩) BV_no ?_
    refine BS_istore_n dX8_goesOn_61 rfl (Nat.le_of_ble_eq_true rfl) ?_
    refine BS_iconst dX8_goesOn_62 (by decide) ?_
    refine BS_istore_n dX8_goesOn_63 rfl (Nat.le_of_ble_eq_true rfl) ?_
    refine BS_iload_n dX8_goesOn_64 rfl ?_
    refine BS_iconst dX8_goesOn_65 (by decide) ?_
    refine BS_icmp_ne (tgt := 77) dX8_goesOn_66 (by decide) ?_ ?_
    · refine BS_iload_n dX8_goesOn_77 rfl ?_
      refine BS_call (run_S dX8_goesOn_78 con_X8_isLetter q1889 q1890 q146 q1891 pd_X8_isLetter ⟨Nat.le_of_ble_eq_true rfl, Nat.le_of_ble_eq_true rfl⟩) BV_no ?_
      refine BS_if_eq (tgt := 166) dX8_goesOn_81 (by decide) ?_ ?_
      · refine BS_iload_n dX8_goesOn_166 rfl ?_
        refine BS_call (run_S dX8_goesOn_167 con_X8_isDigit q1893 q1894 q146 q1895 pd_X8_isDigit ⟨Nat.le_of_ble_eq_true rfl, Nat.le_of_ble_eq_true rfl⟩) BV_no ?_
        refine BS_if_eq (tgt := 249) dX8_goesOn_170 (by decide) ?_ ?_
        · refine BS_iload_n dX8_goesOn_249 rfl ?_
          refine BS_bipush dX8_goesOn_250 (by decide) ?_
          refine BS_icmp_eq (tgt := 261) dX8_goesOn_252 (by decide) ?_ ?_
          · exact bs_X8_goesOn_b261
          · refine BS_iload_n dX8_goesOn_255 rfl ?_
            refine BS_bipush dX8_goesOn_256 (by decide) ?_
            refine BS_icmp_ne (tgt := 281) dX8_goesOn_258 (by decide) ?_ ?_
            · exact BS_return dX8_goesOn_281 rfl
            · exact bs_X8_goesOn_b261
        · refine BS_aload_n dX8_goesOn_173 rfl ?_
          refine BS_iconst dX8_goesOn_174 (by decide) ?_
          refine BS_pfi p_X8_111 (fun h => by cases h) dX8_goesOn_175 ?_
          exact bs_X8_goesOn_b178
      · refine BS_aload_n dX8_goesOn_84 rfl ?_
        refine BS_lconst dX8_goesOn_85 (by decide) ?_
        refine BS_pfl p_X8_104 (fun h => by cases h) dX8_goesOn_86 ?_
        exact bs_X8_goesOn_b89
    · exact bs_X8_goesOn_b69
  · exact bs_X8_goesOn_b22
noncomputable def F_X8_goesOn_b9 : KK OO := op_loop (F_X8_goesOn_l9)
theorem bs_X8_goesOn_b9 : B_S M_X8_goesOn 9 (F_X8_goesOn_b9) z_O k_O := BS_loop (bs_X8_goesOn_l9)
noncomputable def F_X8_goesOn_b0 : KK OO :=
  op_ald 0 <| op_gfi [25] 107 <| op_push (.int 5) <| op_cne (F_X8_goesOn_b9) (op_vret)
theorem bs_X8_goesOn_b0 : B_S M_X8_goesOn 0 (F_X8_goesOn_b0) z_O k_O := by
  unfold F_X8_goesOn_b0
  refine BS_aload_n dX8_goesOn_0 rfl ?_
  refine BS_gfi f_X8_85 dX8_goesOn_1 ?_
  refine BS_iconst dX8_goesOn_4 (by decide) ?_
  refine BS_icmp_ne (tgt := 9) dX8_goesOn_5 (by decide) ?_ ?_
  · exact bs_X8_goesOn_b9
  · exact BS_return dX8_goesOn_8 rfl
noncomputable def F_X8_goesOn : FF := mk_F 3 F_X8_goesOn_b0
theorem con_X8_goesOn : Con_ yX8_goesOn (ws_ yX8_goesOn cX8_goesOn 3 none) 1 21 F_X8_goesOn := Con_of (by decide +kernel) bs_X8_goesOn_b0
/-- LongerHalfModel.good(I)I -/
abbrev M_X8_good : MM := (yX8_good, cX8_good, (some .int), 0, 0, 2, [])
theorem pd_X8_good : (yX8_good.cls ≠ "java/lang/invoke/MethodHandle" ∧ yX8_good.cls ≠ "java/lang/invoke/VarHandle") ∧ (parseMethodDescriptor yX8_good.desc).map (fun d => d.parameters.length) = some 1 := ⟨⟨by decide +kernel, by decide +kernel⟩, by decide +kernel⟩
noncomputable def F_X8_good_b0 : KK OO :=
  op_ald 0 <| op_push (.int 0) <| op_pfi .int [25] 99 <| op_ald 0 <| op_push (.int (-1)) <| op_pfi .int [25] 100 <| op_ild 1 <| op_iret .int
theorem bs_X8_good_b0 : B_S M_X8_good 0 (F_X8_good_b0) z_O k_O := by
  unfold F_X8_good_b0
  refine BS_aload_n dX8_good_0 rfl ?_
  refine BS_iconst dX8_good_1 (by decide) ?_
  refine BS_pfi p_X8_56 (fun h => by cases h) dX8_good_2 ?_
  refine BS_aload_n dX8_good_5 rfl ?_
  refine BS_iconst dX8_good_6 (by decide) ?_
  refine BS_pfi p_X8_9 (fun h => by cases h) dX8_good_7 ?_
  refine BS_iload_n dX8_good_10 rfl ?_
  exact BS_ireturn dX8_good_11 rfl
noncomputable def F_X8_good : FF := mk_F 2 F_X8_good_b0
theorem con_X8_good : Con_ yX8_good (ws_ yX8_good cX8_good 2 (some .int)) 0 0 F_X8_good := Con_of (by decide +kernel) bs_X8_good_b0
/-- LongerHalfModel.isSign(I)Z -/
abbrev M_X8_isSign : MM := (yX8_isSign, cX8_isSign, (some .boolean), 0, 0, 2, [])
theorem pd_X8_isSign : (yX8_isSign.cls ≠ "java/lang/invoke/MethodHandle" ∧ yX8_isSign.cls ≠ "java/lang/invoke/VarHandle") ∧ (parseMethodDescriptor yX8_isSign.desc).map (fun d => d.parameters.length) = some 1 := ⟨⟨by decide +kernel, by decide +kernel⟩, by decide +kernel⟩
noncomputable def F_X8_isSign_b0 : KK OO :=
  op_ald 0 <| op_gfi [25] 107 <| op_push (.int 4) <| op_cne (op_push (.int 0) <| op_iret .boolean) (op_ald 0 <| op_gfi [25] 109 <| op_ild 1 <| op_cne (op_push (.int 0) <| op_iret .boolean) (op_push (.int 1) <| op_iret .boolean))
theorem bs_X8_isSign_b0 : B_S M_X8_isSign 0 (F_X8_isSign_b0) z_O k_O := by
  unfold F_X8_isSign_b0
  refine BS_aload_n dX8_isSign_0 rfl ?_
  refine BS_gfi f_X8_85 dX8_isSign_1 ?_
  refine BS_iconst dX8_isSign_4 (by decide) ?_
  refine BS_icmp_ne (tgt := 20) dX8_isSign_5 (by decide) ?_ ?_
  · refine BS_iconst dX8_isSign_20 (by decide) ?_
    exact BS_ireturn dX8_isSign_21 rfl
  · refine BS_aload_n dX8_isSign_8 rfl ?_
    refine BS_gfi f_X8_97 dX8_isSign_9 ?_
    refine BS_iload_n dX8_isSign_12 rfl ?_
    refine BS_icmp_ne (tgt := 20) dX8_isSign_13 (by decide) ?_ ?_
    · refine BS_iconst dX8_isSign_20 (by decide) ?_
      exact BS_ireturn dX8_isSign_21 rfl
    · refine BS_iconst dX8_isSign_16 (by decide) ?_
      refine BS_goto (tgt := 21) dX8_isSign_17 (by decide) ?_
      exact BS_ireturn dX8_isSign_21 rfl
noncomputable def F_X8_isSign : FF := mk_F 2 F_X8_isSign_b0
theorem con_X8_isSign : Con_ yX8_isSign (ws_ yX8_isSign cX8_isSign 2 (some .boolean)) 0 0 F_X8_isSign := Con_of (by decide +kernel) bs_X8_isSign_b0
/-- LongerHalfModel.eatsSign(I)Z -/
abbrev M_X8_eatsSign : MM := (yX8_eatsSign, cX8_eatsSign, (some .boolean), 2, 43, 3, [])
theorem pd_X8_eatsSign : (yX8_eatsSign.cls ≠ "java/lang/invoke/MethodHandle" ∧ yX8_eatsSign.cls ≠ "java/lang/invoke/VarHandle") ∧ (parseMethodDescriptor yX8_eatsSign.desc).map (fun d => d.parameters.length) = some 1 := ⟨⟨by decide +kernel, by decide +kernel⟩, by decide +kernel⟩
noncomputable def F_X8_eatsSign_b0 : KK OO :=
  op_ald 0 <| op_ild 1 <| op_call 2 (f_kd 25 F_X8_isSign) kx_no <| op_ist 2 <| op_ild 2 <| op_ieq (op_ild 2 <| op_iret .boolean) (op_ald 0 <| op_call 1 (f_kd 25 F_X8_goesOn) kx_no <| op_ild 2 <| op_iret .boolean)
theorem bs_X8_eatsSign_b0 : B_S M_X8_eatsSign 0 (F_X8_eatsSign_b0) z_O k_O := by
  unfold F_X8_eatsSign_b0
  refine BS_aload_n dX8_eatsSign_0 rfl ?_
  refine BS_iload_n dX8_eatsSign_1 rfl ?_
  refine BS_call (run_V dX8_eatsSign_2 con_X8_isSign (ci := 15) rfl rfl q2012 q2014 qs76 q146 q2015 pd_X8_isSign ⟨Nat.le_of_ble_eq_true rfl, Nat.le_of_ble_eq_true rfl⟩) BV_no ?_
  refine BS_istore_n dX8_eatsSign_5 rfl (Nat.le_of_ble_eq_true rfl) ?_
  refine BS_iload_n dX8_eatsSign_6 rfl ?_
  refine BS_if_eq (tgt := 14) dX8_eatsSign_7 (by decide) ?_ ?_
  · refine BS_iload_n dX8_eatsSign_14 rfl ?_
    exact BS_ireturn dX8_eatsSign_15 rfl
  · refine BS_aload_n dX8_eatsSign_10 rfl ?_
    refine BS_call (run_V dX8_eatsSign_11 con_X8_goesOn (ci := 15) rfl rfl q1881 q1883 qs59 q146 q1884 pd_X8_goesOn ⟨Nat.le_of_ble_eq_true rfl, Nat.le_of_ble_eq_true rfl⟩) BV_no ?_
    refine BS_iload_n dX8_eatsSign_14 rfl ?_
    exact BS_ireturn dX8_eatsSign_15 rfl
noncomputable def F_X8_eatsSign : FF := mk_F 3 F_X8_eatsSign_b0
theorem con_X8_eatsSign : Con_ yX8_eatsSign (ws_ yX8_eatsSign cX8_eatsSign 3 (some .boolean)) 2 43 F_X8_eatsSign := Con_of (by decide +kernel) bs_X8_eatsSign_b0
/-- LongerHalfModel.flaw(I)V -/
abbrev M_X8_flaw : MM := (yX8_flaw, cX8_flaw, none, 0, 0, 2, [])
theorem pd_X8_flaw : (yX8_flaw.cls ≠ "java/lang/invoke/MethodHandle" ∧ yX8_flaw.cls ≠ "java/lang/invoke/VarHandle") ∧ (parseMethodDescriptor yX8_flaw.desc).map (fun d => d.parameters.length) = some 1 := ⟨⟨by decide +kernel, by decide +kernel⟩, by decide +kernel⟩
noncomputable def F_X8_flaw_b0 : KK OO :=
  op_ald 0 <| op_gfi [25] 107 <| op_push (.int 5) <| op_cne (op_ald 0 <| op_ild 1 <| op_pfi .int [25] 111 <| op_ald 0 <| op_ald 0 <| op_gfi [25] 108 <| op_pfi .int [25] 112 <| op_ald 0 <| op_push (.int 5) <| op_pfi .int [25] 107 <| op_vret) (op_vret)
theorem bs_X8_flaw_b0 : B_S M_X8_flaw 0 (F_X8_flaw_b0) z_O k_O := by
  unfold F_X8_flaw_b0
  refine BS_aload_n dX8_flaw_0 rfl ?_
  refine BS_gfi f_X8_85 dX8_flaw_1 ?_
  refine BS_iconst dX8_flaw_4 (by decide) ?_
  refine BS_icmp_ne (tgt := 9) dX8_flaw_5 (by decide) ?_ ?_
  · refine BS_aload_n dX8_flaw_9 rfl ?_
    refine BS_iload_n dX8_flaw_10 rfl ?_
    refine BS_pfi p_X8_114 (fun h => by cases h) dX8_flaw_11 ?_
    refine BS_aload_n dX8_flaw_14 rfl ?_
    refine BS_aload_n dX8_flaw_15 rfl ?_
    refine BS_gfi f_X8_94 dX8_flaw_16 ?_
    refine BS_pfi p_X8_117 (fun h => by cases h) dX8_flaw_19 ?_
    refine BS_aload_n dX8_flaw_22 rfl ?_
    refine BS_iconst dX8_flaw_23 (by decide) ?_
    refine BS_pfi p_X8_85 (fun h => by cases h) dX8_flaw_24 ?_
    exact BS_return dX8_flaw_27 rfl
  · exact BS_return dX8_flaw_8 rfl
noncomputable def F_X8_flaw : FF := mk_F 2 F_X8_flaw_b0
theorem con_X8_flaw : Con_ yX8_flaw (ws_ yX8_flaw cX8_flaw 2 none) 0 0 F_X8_flaw := Con_of (by decide +kernel) bs_X8_flaw_b0
/-- LongerHalfModel.wordOf(Ljava/lang/String;)J -/
abbrev M_X8_wordOf : MM := (yX8_wordOf, cX8_wordOf, (some .long), 4, 85, 4, [])
theorem pd_X8_wordOf : (yX8_wordOf.cls ≠ "java/lang/invoke/MethodHandle" ∧ yX8_wordOf.cls ≠ "java/lang/invoke/VarHandle") ∧ (parseMethodDescriptor yX8_wordOf.desc).map (fun d => d.parameters.length) = some 1 := ⟨⟨by decide +kernel, by decide +kernel⟩, by decide +kernel⟩
noncomputable def F_X8_wordOf_l4 : KK (L_S ⊕ OO) :=
  op_ild 3 <| op_ald 0 <| op_call 1 (f_kd 27 F_J3_length) kx_no <| op_cge (op_exit <| op_lld 1 <| op_lret) (op_push (.long 32) <| op_lld 1 <| op_l2 (fun x y => x * y) <| op_ald 0 <| op_ild 3 <| op_call 2 (f_kd 27 F_J3_charAt) kx_no <| op_push (.int 97) <| op_i2 (fun x y => x - y) <| op_push (.int 1) <| op_i2 (fun x y => x + y) <| op_i2l <| op_l2 (fun x y => x + y) <| op_lst 1 <| op_iinc 3 1 <| op_back)
theorem bs_X8_wordOf_l4 : B_S M_X8_wordOf 4 (F_X8_wordOf_l4) (z_L z_O) (k_L 4 k_O) := by
  unfold F_X8_wordOf_l4
  refine BS_iload_n dX8_wordOf_4 rfl ?_
  refine BS_aload_n dX8_wordOf_5 rfl ?_
  refine BS_call (run_V dX8_wordOf_6 con_J3_length (ci := 17) rfl rfl q1912 q1913 q1914 q148 q1915 pd_J3_length ⟨Nat.le_of_ble_eq_true rfl, Nat.le_of_ble_eq_true rfl⟩) BV_no ?_
  refine BS_icmp_ge (tgt := 36) dX8_wordOf_9 (by decide) ?_ ?_
  · refine BS_exit ?_
    refine BS_lload_n dX8_wordOf_36 rfl ?_
    exact BS_lreturn dX8_wordOf_37 rfl
  · refine BS_ldc2 dX8_wordOf_12 q1892 ?_
    refine BS_lload_n dX8_wordOf_15 rfl ?_
    refine BS_lmul dX8_wordOf_16 ?_
    refine BS_aload_n dX8_wordOf_17 rfl ?_
    refine BS_iload_n dX8_wordOf_18 rfl ?_
    refine BS_call (run_V dX8_wordOf_19 con_J3_charAt (ci := 17) rfl rfl q1920 q1921 q1922 q148 q1923 pd_J3_charAt ⟨Nat.le_of_ble_eq_true rfl, Nat.le_of_ble_eq_true rfl⟩) BV_no ?_
    refine BS_bipush dX8_wordOf_22 (by decide) ?_
    refine BS_isub dX8_wordOf_24 ?_
    refine BS_iconst dX8_wordOf_25 (by decide) ?_
    refine BS_iadd dX8_wordOf_26 ?_
    refine BS_i2l dX8_wordOf_27 ?_
    refine BS_ladd dX8_wordOf_28 ?_
    refine BS_lstore_n dX8_wordOf_29 rfl (Nat.le_of_ble_eq_true rfl) ?_
    refine BS_iinc dX8_wordOf_30 (by decide) (Nat.le_of_ble_eq_true rfl) ?_
    refine BS_goto (tgt := 4) dX8_wordOf_33 (by decide) ?_
    exact BS_back
noncomputable def F_X8_wordOf_b4 : KK OO := op_loop (F_X8_wordOf_l4)
theorem bs_X8_wordOf_b4 : B_S M_X8_wordOf 4 (F_X8_wordOf_b4) z_O k_O := BS_loop (bs_X8_wordOf_l4)
noncomputable def F_X8_wordOf_b0 : KK OO :=
  op_push (.long 0) <| op_lst 1 <| op_push (.int 0) <| op_ist 3 <| F_X8_wordOf_b4
theorem bs_X8_wordOf_b0 : B_S M_X8_wordOf 0 (F_X8_wordOf_b0) z_O k_O := by
  unfold F_X8_wordOf_b0
  refine BS_lconst dX8_wordOf_0 (by decide) ?_
  refine BS_lstore_n dX8_wordOf_1 rfl (Nat.le_of_ble_eq_true rfl) ?_
  refine BS_iconst dX8_wordOf_2 (by decide) ?_
  refine BS_istore_n dX8_wordOf_3 rfl (Nat.le_of_ble_eq_true rfl) ?_
  exact bs_X8_wordOf_b4
noncomputable def F_X8_wordOf : FF := mk_F 4 F_X8_wordOf_b0
theorem con_X8_wordOf : Con_ yX8_wordOf (ws_ yX8_wordOf cX8_wordOf 4 (some .long)) 4 85 F_X8_wordOf := Con_of (by decide +kernel) bs_X8_wordOf_b0
/-- LongerHalfModel.isWord(Ljava/lang/String;)Z -/
abbrev M_X8_isWord : MM := (yX8_isWord, cX8_isWord, (some .boolean), 5, 108, 2, [])
theorem pd_X8_isWord : (yX8_isWord.cls ≠ "java/lang/invoke/MethodHandle" ∧ yX8_isWord.cls ≠ "java/lang/invoke/VarHandle") ∧ (parseMethodDescriptor yX8_isWord.desc).map (fun d => d.parameters.length) = some 1 := ⟨⟨by decide +kernel, by decide +kernel⟩, by decide +kernel⟩
noncomputable def F_X8_isWord_b0 : KK OO :=
  op_ald 0 <| op_gfi [25] 107 <| op_push (.int 2) <| op_cne (op_push (.int 0) <| op_iret .boolean) (op_ald 0 <| op_gfl [25] 113 <| op_ald 1 <| op_call 1 F_X8_wordOf kx_no <| op_lcmp <| op_ine (op_push (.int 0) <| op_iret .boolean) (op_push (.int 1) <| op_iret .boolean))
theorem bs_X8_isWord_b0 : B_S M_X8_isWord 0 (F_X8_isWord_b0) z_O k_O := by
  unfold F_X8_isWord_b0
  refine BS_aload_n dX8_isWord_0 rfl ?_
  refine BS_gfi f_X8_85 dX8_isWord_1 ?_
  refine BS_iconst dX8_isWord_4 (by decide) ?_
  refine BS_icmp_ne (tgt := 24) dX8_isWord_5 (by decide) ?_ ?_
  · refine BS_iconst dX8_isWord_24 (by decide) ?_
    exact BS_ireturn dX8_isWord_25 rfl
  · refine BS_aload_n dX8_isWord_8 rfl ?_
    refine BS_gfl f_X8_104 dX8_isWord_9 ?_
    refine BS_aload_n dX8_isWord_12 rfl ?_
    refine BS_call (run_S dX8_isWord_13 con_X8_wordOf q1909 q1910 q146 q1911 pd_X8_wordOf ⟨Nat.le_of_ble_eq_true rfl, Nat.le_of_ble_eq_true rfl⟩) BV_no ?_
    refine BS_lcmp dX8_isWord_16 ?_
    refine BS_if_ne (tgt := 24) dX8_isWord_17 (by decide) ?_ ?_
    · refine BS_iconst dX8_isWord_24 (by decide) ?_
      exact BS_ireturn dX8_isWord_25 rfl
    · refine BS_iconst dX8_isWord_20 (by decide) ?_
      refine BS_goto (tgt := 25) dX8_isWord_21 (by decide) ?_
      exact BS_ireturn dX8_isWord_25 rfl
noncomputable def F_X8_isWord : FF := mk_F 2 F_X8_isWord_b0
theorem con_X8_isWord : Con_ yX8_isWord (ws_ yX8_isWord cX8_isWord 2 (some .boolean)) 5 108 F_X8_isWord := Con_of (by decide +kernel) bs_X8_isWord_b0
/-- LongerHalfModel.begins(II)V -/
abbrev M_X8_begins : MM := (yX8_begins, cX8_begins, none, 2, 43, 3, [])
theorem pd_X8_begins : (yX8_begins.cls ≠ "java/lang/invoke/MethodHandle" ∧ yX8_begins.cls ≠ "java/lang/invoke/VarHandle") ∧ (parseMethodDescriptor yX8_begins.desc).map (fun d => d.parameters.length) = some 2 := ⟨⟨by decide +kernel, by decide +kernel⟩, by decide +kernel⟩
noncomputable def F_X8_begins_b26 : KK OO :=
  op_ald 0 <| op_call 1 (f_kd 25 F_X8_goesOn) kx_no <| op_vret
theorem bs_X8_begins_b26 : B_S M_X8_begins 26 (F_X8_begins_b26) z_O k_O := by
  unfold F_X8_begins_b26
  refine BS_aload_n dX8_begins_26 rfl ?_
  refine BS_call (run_V dX8_begins_27 con_X8_goesOn (ci := 15) rfl rfl q1881 q1883 qs59 q146 q1884 pd_X8_goesOn ⟨Nat.le_of_ble_eq_true rfl, Nat.le_of_ble_eq_true rfl⟩) BV_no ?_
  exact BS_return dX8_begins_30 rfl
noncomputable def F_X8_begins_b10 : KK OO :=
  op_ald 0 <| op_gfr [25] 102 <| op_gfi [26] 148 <| op_ine (F_X8_begins_b26) (op_ald 0 <| op_push (.int 6) <| op_call 2 (f_kd 25 F_X8_flaw) kx_no <| F_X8_begins_b26)
theorem bs_X8_begins_b10 : B_S M_X8_begins 10 (F_X8_begins_b10) z_O k_O := by
  unfold F_X8_begins_b10
  refine BS_aload_n dX8_begins_10 rfl ?_
  refine BS_gfr f_X8_171 dX8_begins_11 ?_
  refine BS_gfi f_X8_175 dX8_begins_14 ?_
  refine BS_if_ne (tgt := 26) dX8_begins_17 (by decide) ?_ ?_
  · exact bs_X8_begins_b26
  · refine BS_aload_n dX8_begins_20 rfl ?_
    refine BS_bipush dX8_begins_21 (by decide) ?_
    refine BS_call (run_V dX8_begins_23 con_X8_flaw (ci := 15) rfl rfl q1944 q1946 qs65 q146 q1947 pd_X8_flaw ⟨Nat.le_of_ble_eq_true rfl, Nat.le_of_ble_eq_true rfl⟩) BV_no ?_
    exact bs_X8_begins_b26
noncomputable def F_X8_begins_b0 : KK OO :=
  op_ild 1 <| op_ild 2 <| op_cne (F_X8_begins_b10) (op_ald 0 <| op_push (.int 5) <| op_call 2 (f_kd 25 F_X8_flaw) kx_no <| F_X8_begins_b10)
theorem bs_X8_begins_b0 : B_S M_X8_begins 0 (F_X8_begins_b0) z_O k_O := by
  unfold F_X8_begins_b0
  refine BS_iload_n dX8_begins_0 rfl ?_
  refine BS_iload_n dX8_begins_1 rfl ?_
  refine BS_icmp_ne (tgt := 10) dX8_begins_2 (by decide) ?_ ?_
  · exact bs_X8_begins_b10
  · refine BS_aload_n dX8_begins_5 rfl ?_
    refine BS_iconst dX8_begins_6 (by decide) ?_
    refine BS_call (run_V dX8_begins_7 con_X8_flaw (ci := 15) rfl rfl q1944 q1946 qs65 q146 q1947 pd_X8_flaw ⟨Nat.le_of_ble_eq_true rfl, Nat.le_of_ble_eq_true rfl⟩) BV_no ?_
    exact bs_X8_begins_b10
noncomputable def F_X8_begins : FF := mk_F 3 F_X8_begins_b0
theorem con_X8_begins : Con_ yX8_begins (ws_ yX8_begins cX8_begins 3 none) 2 43 F_X8_begins := Con_of (by decide +kernel) bs_X8_begins_b0
/-- LongerHalfModel.names(JZI)V -/
abbrev M_X8_names : MM := (yX8_names, cX8_names, none, 0, 0, 5, [])
theorem pd_X8_names : (yX8_names.cls ≠ "java/lang/invoke/MethodHandle" ∧ yX8_names.cls ≠ "java/lang/invoke/VarHandle") ∧ (parseMethodDescriptor yX8_names.desc).map (fun d => d.parameters.length) = some 3 := ⟨⟨by decide +kernel, by decide +kernel⟩, by decide +kernel⟩
noncomputable def F_X8_names_b0 : KK OO :=
  op_ald 0 <| op_gfr [25] 102 <| op_gfr [26] 167 <| op_ald 0 <| op_gfr [25] 102 <| op_gfi [26] 147 <| op_lld 1 <| op_last <| op_ald 0 <| op_gfr [25] 102 <| op_gfr [26] 168 <| op_ald 0 <| op_gfr [25] 102 <| op_gfi [26] 147 <| op_ild 3 <| op_iast 4 .boolean <| op_ald 0 <| op_gfr [25] 102 <| op_gfr [26] 169 <| op_ald 0 <| op_gfr [25] 102 <| op_gfi [26] 147 <| op_ild 4 <| op_iast 1 .int <| op_ald 0 <| op_gfr [25] 102 <| op_dup <| op_gfi [26] 147 <| op_push (.int 1) <| op_i2 (fun x y => x + y) <| op_pfi .int [26] 147 <| op_vret
theorem bs_X8_names_b0 : B_S M_X8_names 0 (F_X8_names_b0) z_O k_O := by
  unfold F_X8_names_b0
  refine BS_aload_n dX8_names_0 rfl ?_
  refine BS_gfr f_X8_171 dX8_names_1 ?_
  refine BS_gfr f_X8_189 dX8_names_4 ?_
  refine BS_aload_n dX8_names_7 rfl ?_
  refine BS_gfr f_X8_171 dX8_names_8 ?_
  refine BS_gfi f_X8_192 dX8_names_11 ?_
  refine BS_lload_n dX8_names_14 rfl ?_
  refine BS_lastore dX8_names_15 ?_
  refine BS_aload_n dX8_names_16 rfl ?_
  refine BS_gfr f_X8_171 dX8_names_17 ?_
  refine BS_gfr f_X8_195 dX8_names_20 ?_
  refine BS_aload_n dX8_names_23 rfl ?_
  refine BS_gfr f_X8_171 dX8_names_24 ?_
  refine BS_gfi f_X8_192 dX8_names_27 ?_
  refine BS_iload_n dX8_names_30 rfl ?_
  refine BS_zastore dX8_names_31 ?_
  refine BS_aload_n dX8_names_32 rfl ?_
  refine BS_gfr f_X8_171 dX8_names_33 ?_
  refine BS_gfr f_X8_198 dX8_names_36 ?_
  refine BS_aload_n dX8_names_39 rfl ?_
  refine BS_gfr f_X8_171 dX8_names_40 ?_
  refine BS_gfi f_X8_192 dX8_names_43 ?_
  refine BS_iload dX8_names_46 ?_
  refine BS_iastore dX8_names_48 ?_
  refine BS_aload_n dX8_names_49 rfl ?_
  refine BS_gfr f_X8_171 dX8_names_50 ?_
  refine BS_dup dX8_names_53 ?_
  refine BS_gfi f_X8_192 dX8_names_54 ?_
  refine BS_iconst dX8_names_57 (by decide) ?_
  refine BS_iadd dX8_names_58 ?_
  refine BS_pfi p_X8_192 (fun h => by cases h) dX8_names_59 ?_
  exact BS_return dX8_names_62 rfl
noncomputable def F_X8_names : FF := mk_F 5 F_X8_names_b0
theorem con_X8_names : Con_ yX8_names (ws_ yX8_names cX8_names 5 none) 0 0 F_X8_names := Con_of (by decide +kernel) bs_X8_names_b0
/-- LongerHalfModel.in(III)Z -/
abbrev M_X8_in : MM := (yX8_in, cX8_in, (some .boolean), 0, 0, 3, [])
theorem pd_X8_in : (yX8_in.cls ≠ "java/lang/invoke/MethodHandle" ∧ yX8_in.cls ≠ "java/lang/invoke/VarHandle") ∧ (parseMethodDescriptor yX8_in.desc).map (fun d => d.parameters.length) = some 3 := ⟨⟨by decide +kernel, by decide +kernel⟩, by decide +kernel⟩
noncomputable def F_X8_in_b0 : KK OO :=
  op_ild 0 <| op_ild 1 <| op_clt (op_push (.int 0) <| op_iret .boolean) (op_ild 0 <| op_ild 2 <| op_cgt (op_push (.int 0) <| op_iret .boolean) (op_push (.int 1) <| op_iret .boolean))
theorem bs_X8_in_b0 : B_S M_X8_in 0 (F_X8_in_b0) z_O k_O := by
  unfold F_X8_in_b0
  refine BS_iload_n dX8_in_0 rfl ?_
  refine BS_iload_n dX8_in_1 rfl ?_
  refine BS_icmp_lt (tgt := 14) dX8_in_2 (by decide) ?_ ?_
  · refine BS_iconst dX8_in_14 (by decide) ?_
    exact BS_ireturn dX8_in_15 rfl
  · refine BS_iload_n dX8_in_5 rfl ?_
    refine BS_iload_n dX8_in_6 rfl ?_
    refine BS_icmp_gt (tgt := 14) dX8_in_7 (by decide) ?_ ?_
    · refine BS_iconst dX8_in_14 (by decide) ?_
      exact BS_ireturn dX8_in_15 rfl
    · refine BS_iconst dX8_in_10 (by decide) ?_
      refine BS_goto (tgt := 15) dX8_in_11 (by decide) ?_
      exact BS_ireturn dX8_in_15 rfl
noncomputable def F_X8_in : FF := mk_F 3 F_X8_in_b0
theorem con_X8_in : Con_ yX8_in (ws_ yX8_in cX8_in 3 (some .boolean)) 0 0 F_X8_in := Con_of (by decide +kernel) bs_X8_in_b0
/-- LongerHalfModel.bounded(II)I -/
abbrev M_X8_bounded : MM := (yX8_bounded, cX8_bounded, (some .int), 1, 22, 3, [])
theorem pd_X8_bounded : (yX8_bounded.cls ≠ "java/lang/invoke/MethodHandle" ∧ yX8_bounded.cls ≠ "java/lang/invoke/VarHandle") ∧ (parseMethodDescriptor yX8_bounded.desc).map (fun d => d.parameters.length) = some 2 := ⟨⟨by decide +kernel, by decide +kernel⟩, by decide +kernel⟩
noncomputable def F_X8_bounded_b33 : KK OO :=
  op_ald 0 <| op_gfi [25] 107 <| op_push (.int 5) <| op_cne (op_ald 0 <| op_gfi [25] 110 <| op_iret .int) (op_ild 1 <| op_iret .int)
theorem bs_X8_bounded_b33 : B_S M_X8_bounded 33 (F_X8_bounded_b33) z_O k_O := by
  unfold F_X8_bounded_b33
  refine BS_aload_n dX8_bounded_33 rfl ?_
  refine BS_gfi f_X8_85 dX8_bounded_34 ?_
  refine BS_iconst dX8_bounded_37 (by decide) ?_
  refine BS_icmp_ne (tgt := 45) dX8_bounded_38 (by decide) ?_ ?_
  · refine BS_aload_n dX8_bounded_45 rfl ?_
    refine BS_gfi f_X8_111 dX8_bounded_46 ?_
    exact BS_ireturn dX8_bounded_49 rfl
  · refine BS_iload_n dX8_bounded_41 rfl ?_
    refine BS_goto (tgt := 49) dX8_bounded_42 (by decide) ?_
    exact BS_ireturn dX8_bounded_49 rfl
noncomputable def F_X8_bounded_b0 : KK OO :=
  op_ald 0 <| op_gfi [25] 107 <| op_push (.int 3) <| op_ceq (op_ald 0 <| op_gfi [25] 110 <| op_ild 1 <| op_ild 2 <| op_call 3 F_X8_in kx_no <| op_ine (F_X8_bounded_b33) (op_ald 0 <| op_push (.int 4) <| op_call 2 (f_kd 25 F_X8_flaw) kx_no <| F_X8_bounded_b33)) (op_ald 0 <| op_push (.int 1) <| op_call 2 (f_kd 25 F_X8_flaw) kx_no <| F_X8_bounded_b33)
theorem bs_X8_bounded_b0 : B_S M_X8_bounded 0 (F_X8_bounded_b0) z_O k_O := by
  unfold F_X8_bounded_b0
  refine BS_aload_n dX8_bounded_0 rfl ?_
  refine BS_gfi f_X8_85 dX8_bounded_1 ?_
  refine BS_iconst dX8_bounded_4 (by decide) ?_
  refine BS_icmp_eq (tgt := 16) dX8_bounded_5 (by decide) ?_ ?_
  · refine BS_aload_n dX8_bounded_16 rfl ?_
    refine BS_gfi f_X8_111 dX8_bounded_17 ?_
    refine BS_iload_n dX8_bounded_20 rfl ?_
    refine BS_iload_n dX8_bounded_21 rfl ?_
    refine BS_call (run_S dX8_bounded_22 con_X8_in q1965 q1966 q146 q1967 pd_X8_in ⟨Nat.le_of_ble_eq_true rfl, Nat.le_of_ble_eq_true rfl⟩) BV_no ?_
    refine BS_if_ne (tgt := 33) dX8_bounded_25 (by decide) ?_ ?_
    · exact bs_X8_bounded_b33
    · refine BS_aload_n dX8_bounded_28 rfl ?_
      refine BS_iconst dX8_bounded_29 (by decide) ?_
      refine BS_call (run_V dX8_bounded_30 con_X8_flaw (ci := 15) rfl rfl q1944 q1946 qs65 q146 q1947 pd_X8_flaw ⟨Nat.le_of_ble_eq_true rfl, Nat.le_of_ble_eq_true rfl⟩) BV_no ?_
      exact bs_X8_bounded_b33
  · refine BS_aload_n dX8_bounded_8 rfl ?_
    refine BS_iconst dX8_bounded_9 (by decide) ?_
    refine BS_call (run_V dX8_bounded_10 con_X8_flaw (ci := 15) rfl rfl q1944 q1946 qs65 q146 q1947 pd_X8_flaw ⟨Nat.le_of_ble_eq_true rfl, Nat.le_of_ble_eq_true rfl⟩) BV_no ?_
    refine BS_goto (tgt := 33) dX8_bounded_13 (by decide) ?_
    exact bs_X8_bounded_b33
noncomputable def F_X8_bounded : FF := mk_F 3 F_X8_bounded_b0
theorem con_X8_bounded : Con_ yX8_bounded (ws_ yX8_bounded cX8_bounded 3 (some .int)) 1 22 F_X8_bounded := Con_of (by decide +kernel) bs_X8_bounded_b0
/-- LongerHalfModel.needs(Ljava/lang/String;)V -/
abbrev M_X8_needs : MM := (yX8_needs, cX8_needs, none, 6, 129, 2, [])
theorem pd_X8_needs : (yX8_needs.cls ≠ "java/lang/invoke/MethodHandle" ∧ yX8_needs.cls ≠ "java/lang/invoke/VarHandle") ∧ (parseMethodDescriptor yX8_needs.desc).map (fun d => d.parameters.length) = some 1 := ⟨⟨by decide +kernel, by decide +kernel⟩, by decide +kernel⟩
noncomputable def F_X8_needs_b13 : KK OO :=
  op_ald 0 <| op_call 1 (f_kd 25 F_X8_goesOn) kx_no <| op_vret
theorem bs_X8_needs_b13 : B_S M_X8_needs 13 (F_X8_needs_b13) z_O k_O := by
  unfold F_X8_needs_b13
  refine BS_aload_n dX8_needs_13 rfl ?_
  refine BS_call (run_V dX8_needs_14 con_X8_goesOn (ci := 15) rfl rfl q1881 q1883 qs59 q146 q1884 pd_X8_goesOn ⟨Nat.le_of_ble_eq_true rfl, Nat.le_of_ble_eq_true rfl⟩) BV_no ?_
  exact BS_return dX8_needs_17 rfl
noncomputable def F_X8_needs_b0 : KK OO :=
  op_ald 0 <| op_ald 1 <| op_call 2 (f_kd 25 F_X8_isWord) kx_no <| op_ine (F_X8_needs_b13) (op_ald 0 <| op_push (.int 1) <| op_call 2 (f_kd 25 F_X8_flaw) kx_no <| F_X8_needs_b13)
theorem bs_X8_needs_b0 : B_S M_X8_needs 0 (F_X8_needs_b0) z_O k_O := by
  unfold F_X8_needs_b0
  refine BS_aload_n dX8_needs_0 rfl ?_
  refine BS_aload_n dX8_needs_1 rfl ?_
  refine BS_call (run_V dX8_needs_2 con_X8_isWord (ci := 15) rfl rfl q1905 q1907 qs63 q146 q1908 pd_X8_isWord ⟨Nat.le_of_ble_eq_true rfl, Nat.le_of_ble_eq_true rfl⟩) BV_no ?_
  refine BS_if_ne (tgt := 13) dX8_needs_5 (by decide) ?_ ?_
  · exact bs_X8_needs_b13
  · refine BS_aload_n dX8_needs_8 rfl ?_
    refine BS_iconst dX8_needs_9 (by decide) ?_
    refine BS_call (run_V dX8_needs_10 con_X8_flaw (ci := 15) rfl rfl q1944 q1946 qs65 q146 q1947 pd_X8_flaw ⟨Nat.le_of_ble_eq_true rfl, Nat.le_of_ble_eq_true rfl⟩) BV_no ?_
    exact bs_X8_needs_b13
noncomputable def F_X8_needs : FF := mk_F 2 F_X8_needs_b0
theorem con_X8_needs : Con_ yX8_needs (ws_ yX8_needs cX8_needs 2 none) 6 129 F_X8_needs := Con_of (by decide +kernel) bs_X8_needs_b0
/-- LongerHalfModel.readArm(I)V -/
abbrev M_X8_readArm : MM := (yX8_readArm, cX8_readArm, none, 7, 150, 6, [])
theorem pd_X8_readArm : (yX8_readArm.cls ≠ "java/lang/invoke/MethodHandle" ∧ yX8_readArm.cls ≠ "java/lang/invoke/VarHandle") ∧ (parseMethodDescriptor yX8_readArm.desc).map (fun d => d.parameters.length) = some 1 := ⟨⟨by decide +kernel, by decide +kernel⟩, by decide +kernel⟩
noncomputable def F_X8_readArm_b184 : KK OO :=
  op_call 2 (f_kd 25 F_X8_flaw) kx_no <| op_vret
theorem bs_X8_readArm_b184 : B_S M_X8_readArm 184 (F_X8_readArm_b184) z_O k_O := by
  unfold F_X8_readArm_b184
  refine BS_call (run_V dX8_readArm_184 con_X8_flaw (ci := 15) rfl rfl q1944 q1946 qs65 q146 q1947 pd_X8_flaw ⟨Nat.le_of_ble_eq_true rfl, Nat.le_of_ble_eq_true rfl⟩) BV_no ?_
  exact BS_return dX8_readArm_187 rfl
noncomputable def F_X8_readArm_b170 : KK OO :=
  op_ist 5 <| op_ald 0 <| op_ild 5 <| op_ieq (op_push (.int 1) <| F_X8_readArm_b184) (op_push (.int 6) <| F_X8_readArm_b184)
theorem bs_X8_readArm_b170 : B_S M_X8_readArm 170 (F_X8_readArm_b170) z_O k_O := by
  unfold F_X8_readArm_b170
  refine BS_istore dX8_readArm_170 (Nat.le_of_ble_eq_true rfl) ?_
  refine BS_aload_n dX8_readArm_172 rfl ?_
  refine BS_iload dX8_readArm_173 ?_
  refine BS_if_eq (tgt := 183) dX8_readArm_175 (by decide) ?_ ?_
  · refine BS_iconst dX8_readArm_183 (by decide) ?_
    exact bs_X8_readArm_b184
  · refine BS_bipush dX8_readArm_178 (by decide) ?_
    refine BS_goto (tgt := 184) dX8_readArm_180 (by decide) ?_
    exact bs_X8_readArm_b184
noncomputable def F_X8_readArm_b165 : KK OO :=
  op_push (.int 1) <| F_X8_readArm_b170
theorem bs_X8_readArm_b165 : B_S M_X8_readArm 165 (F_X8_readArm_b165) z_O k_O := by
  unfold F_X8_readArm_b165
  refine BS_iconst dX8_readArm_165 (by decide) ?_
  refine BS_goto (tgt := 170) dX8_readArm_166 (by decide) ?_
  exact bs_X8_readArm_b170
noncomputable def F_X8_readArm_b68 : KK (L_S ⊕ OO) :=
  op_ald 0 <| op_call 1 (f_kd 25 F_X8_goesOn) kx_no <| op_ald 0 <| op_gfi [25] 107 <| op_push (.int 5) <| op_cne (op_ald 0 <| op_gfr [25] 102 <| op_gfr [26] 152 <| op_push (.int 6) <| op_push (.int 2) <| op_ild 2 <| op_i2 (fun x y => x * y) <| op_ild 1 <| op_i2 (fun x y => x + y) <| op_i2 (fun x y => x * y) <| op_ild 3 <| op_i2 (fun x y => x + y) <| op_ild 5 <| op_iast 1 .int <| op_iinc 3 1 <| op_ald 0 <| op_push (.int 44) <| op_call 2 (f_kd 25 F_X8_eatsSign) kx_no <| op_ist 4 <| op_back) (op_exit <| op_vret)
theorem bs_X8_readArm_b68 : B_S M_X8_readArm 68 (F_X8_readArm_b68) (z_L z_O) (k_L 43 k_O) := by
  unfold F_X8_readArm_b68
  refine BS_aload_n dX8_readArm_68 rfl ?_
  refine BS_call (run_V dX8_readArm_69 con_X8_goesOn (ci := 15) rfl rfl q1881 q1883 qs59 q146 q1884 pd_X8_goesOn ⟨Nat.le_of_ble_eq_true rfl, Nat.le_of_ble_eq_true rfl⟩) BV_no ?_
  refine BS_aload_n dX8_readArm_72 rfl ?_
  refine BS_gfi f_X8_85 dX8_readArm_73 ?_
  refine BS_iconst dX8_readArm_76 (by decide) ?_
  refine BS_icmp_ne (tgt := 81) dX8_readArm_77 (by decide) ?_ ?_
  · refine BS_aload_n dX8_readArm_81 rfl ?_
    refine BS_gfr f_X8_171 dX8_readArm_82 ?_
    refine BS_gfr f_X8_260 dX8_readArm_85 ?_
    refine BS_bipush dX8_readArm_88 (by decide) ?_
    refine BS_iconst dX8_readArm_90 (by decide) ?_
    refine BS_iload_n dX8_readArm_91 rfl ?_
    refine BS_imul dX8_readArm_92 ?_
    refine BS_iload_n dX8_readArm_93 rfl ?_
    refine BS_iadd dX8_readArm_94 ?_
    refine BS_imul dX8_readArm_95 ?_
    refine BS_iload_n dX8_readArm_96 rfl ?_
    refine BS_iadd dX8_readArm_97 ?_
    refine BS_iload dX8_readArm_98 ?_
    refine BS_iastore dX8_readArm_100 ?_
    refine BS_iinc dX8_readArm_101 (by decide) (Nat.le_of_ble_eq_true rfl) ?_
    refine BS_aload_n dX8_readArm_104 rfl ?_
    refine BS_bipush dX8_readArm_105 (by decide) ?_
    refine BS_call (run_V dX8_readArm_107 con_X8_eatsSign (ci := 15) rfl rfl q2008 q2010 qs75 q146 q2011 pd_X8_eatsSign ⟨Nat.le_of_ble_eq_true rfl, Nat.le_of_ble_eq_true rfl⟩) BV_no ?_
    refine BS_istore dX8_readArm_110 (Nat.le_of_ble_eq_true rfl) ?_
    refine BS_goto (tgt := 43) dX8_readArm_112 (by decide) ?_
    exact BS_back
  · refine BS_exit ?_
    exact BS_return dX8_readArm_80 rfl
noncomputable def F_X8_readArm_l43 : KK (L_S ⊕ OO) :=
  op_ild 4 <| op_ieq (op_exit <| op_ald 0 <| op_gfr [25] 102 <| op_gfr [26] 151 <| op_push (.int 2) <| op_ild 2 <| op_i2 (fun x y => x * y) <| op_ild 1 <| op_i2 (fun x y => x + y) <| op_ild 3 <| op_iast 1 .int <| op_ild 3 <| op_push (.int 1) <| op_cle (op_ild 1 <| op_ine (op_ald 0 <| op_push (.int 59) <| op_call 2 (f_kd 25 F_X8_isSign) kx_no <| op_ine (F_X8_readArm_b165) (op_ald 0 <| op_gfi [25] 107 <| op_push (.int 1) <| op_cne (op_push (.int 0) <| F_X8_readArm_b170) (F_X8_readArm_b165))) (op_ald 0 <| op_ldcs 13 <| op_call 2 (f_kd 25 F_X8_isWord) kx_no <| F_X8_readArm_b170)) (op_vret)) (op_ald 0 <| op_push (.int 1) <| op_push (.int 9) <| op_call 3 (f_kd 25 F_X8_bounded) kx_no <| op_ist 5 <| op_ild 3 <| op_push (.int 6) <| op_cne (F_X8_readArm_b68) (op_ald 0 <| op_push (.int 5) <| op_call 2 (f_kd 25 F_X8_flaw) kx_no <| F_X8_readArm_b68))
theorem bs_X8_readArm_l43 : B_S M_X8_readArm 43 (F_X8_readArm_l43) (z_L z_O) (k_L 43 k_O) := by
  unfold F_X8_readArm_l43
  refine BS_iload dX8_readArm_43 ?_
  refine BS_if_eq (tgt := 115) dX8_readArm_45 (by decide) ?_ ?_
  · refine BS_exit ?_
    refine BS_aload_n dX8_readArm_115 rfl ?_
    refine BS_gfr f_X8_171 dX8_readArm_116 ?_
    refine BS_gfr f_X8_263 dX8_readArm_119 ?_
    refine BS_iconst dX8_readArm_122 (by decide) ?_
    refine BS_iload_n dX8_readArm_123 rfl ?_
    refine BS_imul dX8_readArm_124 ?_
    refine BS_iload_n dX8_readArm_125 rfl ?_
    refine BS_iadd dX8_readArm_126 ?_
    refine BS_iload_n dX8_readArm_127 rfl ?_
    refine BS_iastore dX8_readArm_128 ?_
    refine BS_iload_n dX8_readArm_129 rfl ?_
    refine BS_iconst dX8_readArm_130 (by decide) ?_
    refine BS_icmp_le (tgt := 135) dX8_readArm_131 (by decide) ?_ ?_
    · refine BS_iload_n dX8_readArm_135 rfl ?_
      refine BS_if_ne (tgt := 148) dX8_readArm_136 (by decide) ?_ ?_
      · refine BS_aload_n dX8_readArm_148 rfl ?_
        refine BS_bipush dX8_readArm_149 (by decide) ?_
        refine BS_call (run_V dX8_readArm_151 con_X8_isSign (ci := 15) rfl rfl q2012 q2014 qs76 q146 q2015 pd_X8_isSign ⟨Nat.le_of_ble_eq_true rfl, Nat.le_of_ble_eq_true rfl⟩) BV_no ?_
        refine BS_if_ne (tgt := 165) dX8_readArm_154 (by decide) ?_ ?_
        · exact bs_X8_readArm_b165
        · refine BS_aload_n dX8_readArm_157 rfl ?_
          refine BS_gfi f_X8_85 dX8_readArm_158 ?_
          refine BS_iconst dX8_readArm_161 (by decide) ?_
          refine BS_icmp_ne (tgt := 169) dX8_readArm_162 (by decide) ?_ ?_
          · refine BS_iconst dX8_readArm_169 (by decide) ?_
            exact bs_X8_readArm_b170
          · exact bs_X8_readArm_b165
      · refine BS_aload_n dX8_readArm_139 rfl ?_
        refine BS_ldcs dX8_readArm_140 st_X8_169 ?_
        refine BS_call (run_V dX8_readArm_142 con_X8_isWord (ci := 15) rfl rfl q1905 q1907 qs63 q146 q1908 pd_X8_isWord ⟨Nat.le_of_ble_eq_true rfl, Nat.le_of_ble_eq_true rfl⟩) BV_no ?_
        refine BS_goto (tgt := 170) dX8_readArm_145 (by decide) ?_
        exact bs_X8_readArm_b170
    · exact BS_return dX8_readArm_134 rfl
  · refine BS_aload_n dX8_readArm_48 rfl ?_
    refine BS_iconst dX8_readArm_49 (by decide) ?_
    refine BS_bipush dX8_readArm_50 (by decide) ?_
    refine BS_call (run_V dX8_readArm_52 con_X8_bounded (ci := 15) rfl rfl q1961 q1963 qs69 q146 q1964 pd_X8_bounded ⟨Nat.le_of_ble_eq_true rfl, Nat.le_of_ble_eq_true rfl⟩) BV_no ?_
    refine BS_istore dX8_readArm_55 (Nat.le_of_ble_eq_true rfl) ?_
    refine BS_iload_n dX8_readArm_57 rfl ?_
    refine BS_bipush dX8_readArm_58 (by decide) ?_
    refine BS_icmp_ne (tgt := 68) dX8_readArm_60 (by decide) ?_ ?_
    · exact bs_X8_readArm_b68
    · refine BS_aload_n dX8_readArm_63 rfl ?_
      refine BS_iconst dX8_readArm_64 (by decide) ?_
      refine BS_call (run_V dX8_readArm_65 con_X8_flaw (ci := 15) rfl rfl q1944 q1946 qs65 q146 q1947 pd_X8_flaw ⟨Nat.le_of_ble_eq_true rfl, Nat.le_of_ble_eq_true rfl⟩) BV_no ?_
      exact bs_X8_readArm_b68
noncomputable def F_X8_readArm_b43 : KK OO := op_loop (F_X8_readArm_l43)
theorem bs_X8_readArm_b43 : B_S M_X8_readArm 43 (F_X8_readArm_b43) z_O k_O := BS_loop (bs_X8_readArm_l43)
noncomputable def F_X8_readArm_b37 : KK OO :=
  op_ist 2 <| op_push (.int 0) <| op_ist 3 <| op_push (.int 1) <| op_ist 4 <| F_X8_readArm_b43
theorem bs_X8_readArm_b37 : B_S M_X8_readArm 37 (F_X8_readArm_b37) z_O k_O := by
  unfold F_X8_readArm_b37
  refine BS_istore_n dX8_readArm_37 rfl (Nat.le_of_ble_eq_true rfl) ?_
  refine BS_iconst dX8_readArm_38 (by decide) ?_
  refine BS_istore_n dX8_readArm_39 rfl (Nat.le_of_ble_eq_true rfl) ?_
  refine BS_iconst dX8_readArm_40 (by decide) ?_
  refine BS_istore dX8_readArm_41 (Nat.le_of_ble_eq_true rfl) ?_
  exact bs_X8_readArm_b43
noncomputable def F_X8_readArm_b12 : KK OO :=
  op_call 2 (f_kd 25 F_X8_needs) kx_no <| op_ald 0 <| op_gfr [25] 102 <| op_gfi [26] 142 <| op_push (.int 5) <| op_cge (op_push (.int 0) <| F_X8_readArm_b37) (op_ald 0 <| op_gfr [25] 102 <| op_gfi [26] 142 <| F_X8_readArm_b37)
theorem bs_X8_readArm_b12 : B_S M_X8_readArm 12 (F_X8_readArm_b12) z_O k_O := by
  unfold F_X8_readArm_b12
  refine BS_call (run_V dX8_readArm_12 con_X8_needs (ci := 15) rfl rfl q1953 q1955 qs67 q146 q1956 pd_X8_needs ⟨Nat.le_of_ble_eq_true rfl, Nat.le_of_ble_eq_true rfl⟩) BV_no ?_
  refine BS_aload_n dX8_readArm_15 rfl ?_
  refine BS_gfr f_X8_171 dX8_readArm_16 ?_
  refine BS_gfi f_X8_210 dX8_readArm_19 ?_
  refine BS_iconst dX8_readArm_22 (by decide) ?_
  refine BS_icmp_ge (tgt := 36) dX8_readArm_23 (by decide) ?_ ?_
  · refine BS_iconst dX8_readArm_36 (by decide) ?_
    exact bs_X8_readArm_b37
  · refine BS_aload_n dX8_readArm_26 rfl ?_
    refine BS_gfr f_X8_171 dX8_readArm_27 ?_
    refine BS_gfi f_X8_210 dX8_readArm_30 ?_
    refine BS_goto (tgt := 37) dX8_readArm_33 (by decide) ?_
    exact bs_X8_readArm_b37
noncomputable def F_X8_readArm_b0 : KK OO :=
  op_ald 0 <| op_ild 1 <| op_ine (op_ldcs 13 <| F_X8_readArm_b12) (op_ldcs 12 <| F_X8_readArm_b12)
theorem bs_X8_readArm_b0 : B_S M_X8_readArm 0 (F_X8_readArm_b0) z_O k_O := by
  unfold F_X8_readArm_b0
  refine BS_aload_n dX8_readArm_0 rfl ?_
  refine BS_iload_n dX8_readArm_1 rfl ?_
  refine BS_if_ne (tgt := 10) dX8_readArm_2 (by decide) ?_ ?_
  · refine BS_ldcs dX8_readArm_10 st_X8_169 ?_
    exact bs_X8_readArm_b12
  · refine BS_ldcs dX8_readArm_5 st_X8_167 ?_
    refine BS_goto (tgt := 12) dX8_readArm_7 (by decide) ?_
    exact bs_X8_readArm_b12
noncomputable def F_X8_readArm : FF := mk_F 6 F_X8_readArm_b0
theorem con_X8_readArm : Con_ yX8_readArm (ws_ yX8_readArm cX8_readArm 6 none) 7 150 F_X8_readArm := Con_of (by decide +kernel) bs_X8_readArm_b0
/-- LongerHalfModel.isName()Z -/
abbrev M_X8_isName : MM := (yX8_isName, cX8_isName, (some .boolean), 6, 129, 1, [])
theorem pd_X8_isName : (yX8_isName.cls ≠ "java/lang/invoke/MethodHandle" ∧ yX8_isName.cls ≠ "java/lang/invoke/VarHandle") ∧ (parseMethodDescriptor yX8_isName.desc).map (fun d => d.parameters.length) = some 0 := ⟨⟨by decide +kernel, by decide +kernel⟩, by decide +kernel⟩
noncomputable def F_X8_isName_b73 : KK OO :=
  op_ald 0 <| op_ldcs 12 <| op_call 2 (f_kd 25 F_X8_isWord) kx_no <| op_ine (op_push (.int 0) <| op_iret .boolean) (op_ald 0 <| op_ldcs 13 <| op_call 2 (f_kd 25 F_X8_isWord) kx_no <| op_ine (op_push (.int 0) <| op_iret .boolean) (op_push (.int 1) <| op_iret .boolean))
theorem bs_X8_isName_b73 : B_S M_X8_isName 73 (F_X8_isName_b73) z_O k_O := by
  unfold F_X8_isName_b73
  refine BS_aload_n dX8_isName_73 rfl ?_
  refine BS_ldcs dX8_isName_74 st_X8_167 ?_
  refine BS_call (run_V dX8_isName_76 con_X8_isWord (ci := 15) rfl rfl q1905 q1907 qs63 q146 q1908 pd_X8_isWord ⟨Nat.le_of_ble_eq_true rfl, Nat.le_of_ble_eq_true rfl⟩) BV_no ?_
  refine BS_if_ne (tgt := 95) dX8_isName_79 (by decide) ?_ ?_
  · refine BS_iconst dX8_isName_95 (by decide) ?_
    exact BS_ireturn dX8_isName_96 rfl
  · refine BS_aload_n dX8_isName_82 rfl ?_
    refine BS_ldcs dX8_isName_83 st_X8_169 ?_
    refine BS_call (run_V dX8_isName_85 con_X8_isWord (ci := 15) rfl rfl q1905 q1907 qs63 q146 q1908 pd_X8_isWord ⟨Nat.le_of_ble_eq_true rfl, Nat.le_of_ble_eq_true rfl⟩) BV_no ?_
    refine BS_if_ne (tgt := 95) dX8_isName_88 (by decide) ?_ ?_
    · refine BS_iconst dX8_isName_95 (by decide) ?_
      exact BS_ireturn dX8_isName_96 rfl
    · refine BS_iconst dX8_isName_91 (by decide) ?_
      refine BS_goto (tgt := 96) dX8_isName_92 (by decide) ?_
      exact BS_ireturn dX8_isName_96 rfl
noncomputable def F_X8_isName_b0 : KK OO :=
  op_ald 0 <| op_gfi [25] 107 <| op_push (.int 2) <| op_cne (op_push (.int 0) <| op_iret .boolean) (op_ald 0 <| op_ldcs 0 <| op_call 2 (f_kd 25 F_X8_isWord) kx_no <| op_ine (op_push (.int 0) <| op_iret .boolean) (op_ald 0 <| op_ldcs 6 <| op_call 2 (f_kd 25 F_X8_isWord) kx_no <| op_ine (op_push (.int 0) <| op_iret .boolean) (op_ald 0 <| op_ldcs 7 <| op_call 2 (f_kd 25 F_X8_isWord) kx_no <| op_ine (op_push (.int 0) <| op_iret .boolean) (op_ald 0 <| op_ldcs 8 <| op_call 2 (f_kd 25 F_X8_isWord) kx_no <| op_ine (op_push (.int 0) <| op_iret .boolean) (op_ald 0 <| op_ldcs 9 <| op_call 2 (f_kd 25 F_X8_isWord) kx_no <| op_ieq (op_ald 0 <| op_ldcs 10 <| op_call 2 (f_kd 25 F_X8_isWord) kx_no <| op_ine (op_push (.int 0) <| op_iret .boolean) (op_ald 0 <| op_ldcs 11 <| op_call 2 (f_kd 25 F_X8_isWord) kx_no <| op_ine (op_push (.int 0) <| op_iret .boolean) (F_X8_isName_b73))) (op_push (.int 0) <| op_iret .boolean))))))
theorem bs_X8_isName_b0 : B_S M_X8_isName 0 (F_X8_isName_b0) z_O k_O := by
  unfold F_X8_isName_b0
  refine BS_aload_n dX8_isName_0 rfl ?_
  refine BS_gfi f_X8_85 dX8_isName_1 ?_
  refine BS_iconst dX8_isName_4 (by decide) ?_
  refine BS_icmp_ne (tgt := 53) dX8_isName_5 (by decide) ?_ ?_
  · refine BS_iconst dX8_isName_53 (by decide) ?_
    exact BS_ireturn dX8_isName_54 rfl
  · refine BS_aload_n dX8_isName_8 rfl ?_
    refine BS_ldcs dX8_isName_9 st_X8_153 ?_
    refine BS_call (run_V dX8_isName_11 con_X8_isWord (ci := 15) rfl rfl q1905 q1907 qs63 q146 q1908 pd_X8_isWord ⟨Nat.le_of_ble_eq_true rfl, Nat.le_of_ble_eq_true rfl⟩) BV_no ?_
    refine BS_if_ne (tgt := 53) dX8_isName_14 (by decide) ?_ ?_
    · refine BS_iconst dX8_isName_53 (by decide) ?_
      exact BS_ireturn dX8_isName_54 rfl
    · refine BS_aload_n dX8_isName_17 rfl ?_
      refine BS_ldcs dX8_isName_18 st_X8_155 ?_
      refine BS_call (run_V dX8_isName_20 con_X8_isWord (ci := 15) rfl rfl q1905 q1907 qs63 q146 q1908 pd_X8_isWord ⟨Nat.le_of_ble_eq_true rfl, Nat.le_of_ble_eq_true rfl⟩) BV_no ?_
      refine BS_if_ne (tgt := 53) dX8_isName_23 (by decide) ?_ ?_
      · refine BS_iconst dX8_isName_53 (by decide) ?_
        exact BS_ireturn dX8_isName_54 rfl
      · refine BS_aload_n dX8_isName_26 rfl ?_
        refine BS_ldcs dX8_isName_27 st_X8_157 ?_
        refine BS_call (run_V dX8_isName_29 con_X8_isWord (ci := 15) rfl rfl q1905 q1907 qs63 q146 q1908 pd_X8_isWord ⟨Nat.le_of_ble_eq_true rfl, Nat.le_of_ble_eq_true rfl⟩) BV_no ?_
        refine BS_if_ne (tgt := 53) dX8_isName_32 (by decide) ?_ ?_
        · refine BS_iconst dX8_isName_53 (by decide) ?_
          exact BS_ireturn dX8_isName_54 rfl
        · refine BS_aload_n dX8_isName_35 rfl ?_
          refine BS_ldcs dX8_isName_36 st_X8_159 ?_
          refine BS_call (run_V dX8_isName_38 con_X8_isWord (ci := 15) rfl rfl q1905 q1907 qs63 q146 q1908 pd_X8_isWord ⟨Nat.le_of_ble_eq_true rfl, Nat.le_of_ble_eq_true rfl⟩) BV_no ?_
          refine BS_if_ne (tgt := 53) dX8_isName_41 (by decide) ?_ ?_
          · refine BS_iconst dX8_isName_53 (by decide) ?_
            exact BS_ireturn dX8_isName_54 rfl
          · refine BS_aload_n dX8_isName_44 rfl ?_
            refine BS_ldcs dX8_isName_45 st_X8_161 ?_
            refine BS_call (run_V dX8_isName_47 con_X8_isWord (ci := 15) rfl rfl q1905 q1907 qs63 q146 q1908 pd_X8_isWord ⟨Nat.le_of_ble_eq_true rfl, Nat.le_of_ble_eq_true rfl⟩) BV_no ?_
            refine BS_if_eq (tgt := 55) dX8_isName_50 (by decide) ?_ ?_
            · refine BS_aload_n dX8_isName_55 rfl ?_
              refine BS_ldcs dX8_isName_56 st_X8_163 ?_
              refine BS_call (run_V dX8_isName_58 con_X8_isWord (ci := 15) rfl rfl q1905 q1907 qs63 q146 q1908 pd_X8_isWord ⟨Nat.le_of_ble_eq_true rfl, Nat.le_of_ble_eq_true rfl⟩) BV_no ?_
              refine BS_if_ne (tgt := 95) dX8_isName_61 (by decide) ?_ ?_
              · refine BS_iconst dX8_isName_95 (by decide) ?_
                exact BS_ireturn dX8_isName_96 rfl
              · refine BS_aload_n dX8_isName_64 rfl ?_
                refine BS_ldcs dX8_isName_65 st_X8_165 ?_
                refine BS_call (run_V dX8_isName_67 con_X8_isWord (ci := 15) rfl rfl q1905 q1907 qs63 q146 q1908 pd_X8_isWord ⟨Nat.le_of_ble_eq_true rfl, Nat.le_of_ble_eq_true rfl⟩) BV_no ?_
                refine BS_if_ne (tgt := 95) dX8_isName_70 (by decide) ?_ ?_
                · refine BS_iconst dX8_isName_95 (by decide) ?_
                  exact BS_ireturn dX8_isName_96 rfl
                · exact bs_X8_isName_b73
            · refine BS_iconst dX8_isName_53 (by decide) ?_
              exact BS_ireturn dX8_isName_54 rfl
noncomputable def F_X8_isName : FF := mk_F 1 F_X8_isName_b0
theorem con_X8_isName : Con_ yX8_isName (ws_ yX8_isName cX8_isName 1 (some .boolean)) 6 129 F_X8_isName := Con_of (by decide +kernel) bs_X8_isName_b0
/-- LongerHalfModel.readFresh()J -/
abbrev M_X8_readFresh : MM := (yX8_readFresh, cX8_readFresh, (some .long), 7, 149, 3, [])
theorem pd_X8_readFresh : (yX8_readFresh.cls ≠ "java/lang/invoke/MethodHandle" ∧ yX8_readFresh.cls ≠ "java/lang/invoke/VarHandle") ∧ (parseMethodDescriptor yX8_readFresh.desc).map (fun d => d.parameters.length) = some 0 := ⟨⟨by decide +kernel, by decide +kernel⟩, by decide +kernel⟩
noncomputable def F_X8_readFresh_b32 : KK OO :=
  op_ald 0 <| op_gfl [25] 113 <| op_lst 1 <| op_ald 0 <| op_call 1 (f_kd 25 F_X8_goesOn) kx_no <| op_lld 1 <| op_lret
theorem bs_X8_readFresh_b32 : B_S M_X8_readFresh 32 (F_X8_readFresh_b32) z_O k_O := by
  unfold F_X8_readFresh_b32
  refine BS_aload_n dX8_readFresh_32 rfl ?_
  refine BS_gfl f_X8_104 dX8_readFresh_33 ?_
  refine BS_lstore_n dX8_readFresh_36 rfl (Nat.le_of_ble_eq_true rfl) ?_
  refine BS_aload_n dX8_readFresh_37 rfl ?_
  refine BS_call (run_V dX8_readFresh_38 con_X8_goesOn (ci := 15) rfl rfl q1881 q1883 qs59 q146 q1884 pd_X8_goesOn ⟨Nat.le_of_ble_eq_true rfl, Nat.le_of_ble_eq_true rfl⟩) BV_no ?_
  refine BS_lload_n dX8_readFresh_41 rfl ?_
  exact BS_lreturn dX8_readFresh_42 rfl
noncomputable def F_X8_readFresh_b12 : KK OO :=
  op_ald 0 <| op_gfr [25] 102 <| op_ald 0 <| op_gfl [25] 113 <| op_call 2 (f_kd 26 F_X20_find) kx_no <| op_push (.int (-1)) <| op_ceq (F_X8_readFresh_b32) (op_ald 0 <| op_push (.int 3) <| op_call 2 (f_kd 25 F_X8_flaw) kx_no <| F_X8_readFresh_b32)
theorem bs_X8_readFresh_b12 : B_S M_X8_readFresh 12 (F_X8_readFresh_b12) z_O k_O := by
  unfold F_X8_readFresh_b12
  refine BS_aload_n dX8_readFresh_12 rfl ?_
  refine BS_gfr f_X8_171 dX8_readFresh_13 ?_
  refine BS_aload_n dX8_readFresh_16 rfl ?_
  refine BS_gfl f_X8_104 dX8_readFresh_17 ?_
  refine BS_call (run_V dX8_readFresh_20 con_X20_find (ci := 16) rfl rfl q1996 q1997 q1998 q163 q1999 pd_X20_find ⟨Nat.le_of_ble_eq_true rfl, Nat.le_of_ble_eq_true rfl⟩) BV_no ?_
  refine BS_iconst dX8_readFresh_23 (by decide) ?_
  refine BS_icmp_eq (tgt := 32) dX8_readFresh_24 (by decide) ?_ ?_
  · exact bs_X8_readFresh_b32
  · refine BS_aload_n dX8_readFresh_27 rfl ?_
    refine BS_iconst dX8_readFresh_28 (by decide) ?_
    refine BS_call (run_V dX8_readFresh_29 con_X8_flaw (ci := 15) rfl rfl q1944 q1946 qs65 q146 q1947 pd_X8_flaw ⟨Nat.le_of_ble_eq_true rfl, Nat.le_of_ble_eq_true rfl⟩) BV_no ?_
    exact bs_X8_readFresh_b32
noncomputable def F_X8_readFresh_b0 : KK OO :=
  op_ald 0 <| op_call 1 (f_kd 25 F_X8_isName) kx_no <| op_ine (F_X8_readFresh_b12) (op_ald 0 <| op_push (.int 1) <| op_call 2 (f_kd 25 F_X8_flaw) kx_no <| F_X8_readFresh_b12)
theorem bs_X8_readFresh_b0 : B_S M_X8_readFresh 0 (F_X8_readFresh_b0) z_O k_O := by
  unfold F_X8_readFresh_b0
  refine BS_aload_n dX8_readFresh_0 rfl ?_
  refine BS_call (run_V dX8_readFresh_1 con_X8_isName (ci := 15) rfl rfl q1985 q1987 qs73 q146 q1988 pd_X8_isName ⟨Nat.le_of_ble_eq_true rfl, Nat.le_of_ble_eq_true rfl⟩) BV_no ?_
  refine BS_if_ne (tgt := 12) dX8_readFresh_4 (by decide) ?_ ?_
  · exact bs_X8_readFresh_b12
  · refine BS_aload_n dX8_readFresh_7 rfl ?_
    refine BS_iconst dX8_readFresh_8 (by decide) ?_
    refine BS_call (run_V dX8_readFresh_9 con_X8_flaw (ci := 15) rfl rfl q1944 q1946 qs65 q146 q1947 pd_X8_flaw ⟨Nat.le_of_ble_eq_true rfl, Nat.le_of_ble_eq_true rfl⟩) BV_no ?_
    exact bs_X8_readFresh_b12
noncomputable def F_X8_readFresh : FF := mk_F 3 F_X8_readFresh_b0
theorem con_X8_readFresh : Con_ yX8_readFresh (ws_ yX8_readFresh cX8_readFresh 3 (some .long)) 7 149 F_X8_readFresh := Con_of (by decide +kernel) bs_X8_readFresh_b0
/-- LongerHalfModel.readWhole(II)I -/
abbrev M_X8_readWhole : MM := (yX8_readWhole, cX8_readWhole, (some .int), 2, 44, 4, [])
theorem pd_X8_readWhole : (yX8_readWhole.cls ≠ "java/lang/invoke/MethodHandle" ∧ yX8_readWhole.cls ≠ "java/lang/invoke/VarHandle") ∧ (parseMethodDescriptor yX8_readWhole.desc).map (fun d => d.parameters.length) = some 2 := ⟨⟨by decide +kernel, by decide +kernel⟩, by decide +kernel⟩
noncomputable def F_X8_readWhole_b0 : KK OO :=
  op_ald 0 <| op_ild 1 <| op_ild 2 <| op_call 3 (f_kd 25 F_X8_bounded) kx_no <| op_ist 3 <| op_ald 0 <| op_call 1 (f_kd 25 F_X8_goesOn) kx_no <| op_ild 3 <| op_iret .int
theorem bs_X8_readWhole_b0 : B_S M_X8_readWhole 0 (F_X8_readWhole_b0) z_O k_O := by
  unfold F_X8_readWhole_b0
  refine BS_aload_n dX8_readWhole_0 rfl ?_
  refine BS_iload_n dX8_readWhole_1 rfl ?_
  refine BS_iload_n dX8_readWhole_2 rfl ?_
  refine BS_call (run_V dX8_readWhole_3 con_X8_bounded (ci := 15) rfl rfl q1961 q1963 qs69 q146 q1964 pd_X8_bounded ⟨Nat.le_of_ble_eq_true rfl, Nat.le_of_ble_eq_true rfl⟩) BV_no ?_
  refine BS_istore_n dX8_readWhole_6 rfl (Nat.le_of_ble_eq_true rfl) ?_
  refine BS_aload_n dX8_readWhole_7 rfl ?_
  refine BS_call (run_V dX8_readWhole_8 con_X8_goesOn (ci := 15) rfl rfl q1881 q1883 qs59 q146 q1884 pd_X8_goesOn ⟨Nat.le_of_ble_eq_true rfl, Nat.le_of_ble_eq_true rfl⟩) BV_no ?_
  refine BS_iload_n dX8_readWhole_11 rfl ?_
  exact BS_ireturn dX8_readWhole_12 rfl
noncomputable def F_X8_readWhole : FF := mk_F 4 F_X8_readWhole_b0
theorem con_X8_readWhole : Con_ yX8_readWhole (ws_ yX8_readWhole cX8_readWhole 4 (some .int)) 2 44 F_X8_readWhole := Con_of (by decide +kernel) bs_X8_readWhole_b0
/-- LongerHalfModel.readPart(Ljava/lang/String;II)I -/
abbrev M_X8_readPart : MM := (yX8_readPart, cX8_readPart, (some .int), 7, 150, 4, [])
theorem pd_X8_readPart : (yX8_readPart.cls ≠ "java/lang/invoke/MethodHandle" ∧ yX8_readPart.cls ≠ "java/lang/invoke/VarHandle") ∧ (parseMethodDescriptor yX8_readPart.desc).map (fun d => d.parameters.length) = some 3 := ⟨⟨by decide +kernel, by decide +kernel⟩, by decide +kernel⟩
noncomputable def F_X8_readPart_b0 : KK OO :=
  op_ald 0 <| op_ald 1 <| op_call 2 (f_kd 25 F_X8_needs) kx_no <| op_ald 0 <| op_ild 2 <| op_ild 3 <| op_call 3 (f_kd 25 F_X8_readWhole) kx_no <| op_iret .int
theorem bs_X8_readPart_b0 : B_S M_X8_readPart 0 (F_X8_readPart_b0) z_O k_O := by
  unfold F_X8_readPart_b0
  refine BS_aload_n dX8_readPart_0 rfl ?_
  refine BS_aload_n dX8_readPart_1 rfl ?_
  refine BS_call (run_V dX8_readPart_2 con_X8_needs (ci := 15) rfl rfl q1953 q1955 qs67 q146 q1956 pd_X8_needs ⟨Nat.le_of_ble_eq_true rfl, Nat.le_of_ble_eq_true rfl⟩) BV_no ?_
  refine BS_aload_n dX8_readPart_5 rfl ?_
  refine BS_iload_n dX8_readPart_6 rfl ?_
  refine BS_iload_n dX8_readPart_7 rfl ?_
  refine BS_call (run_V dX8_readPart_8 con_X8_readWhole (ci := 15) rfl rfl q1957 q1959 qs68 q146 q1960 pd_X8_readWhole ⟨Nat.le_of_ble_eq_true rfl, Nat.le_of_ble_eq_true rfl⟩) BV_no ?_
  exact BS_ireturn dX8_readPart_11 rfl
noncomputable def F_X8_readPart : FF := mk_F 4 F_X8_readPart_b0
theorem con_X8_readPart : Con_ yX8_readPart (ws_ yX8_readPart cX8_readPart 4 (some .int)) 7 150 F_X8_readPart := Con_of (by decide +kernel) bs_X8_readPart_b0
/-- LongerHalfModel.readBone()V -/
abbrev M_X8_readBone : MM := (yX8_readBone, cX8_readBone, none, 8, 175, 5, [])
theorem pd_X8_readBone : (yX8_readBone.cls ≠ "java/lang/invoke/MethodHandle" ∧ yX8_readBone.cls ≠ "java/lang/invoke/VarHandle") ∧ (parseMethodDescriptor yX8_readBone.desc).map (fun d => d.parameters.length) = some 0 := ⟨⟨by decide +kernel, by decide +kernel⟩, by decide +kernel⟩
noncomputable def F_X8_readBone_b160 : KK OO :=
  op_push (.int 1) <| op_i2 (fun x y => x + y) <| op_pfi .int [26] 142 <| op_vret
theorem bs_X8_readBone_b160 : B_S M_X8_readBone 160 (F_X8_readBone_b160) z_O k_O := by
  unfold F_X8_readBone_b160
  refine BS_iconst dX8_readBone_160 (by decide) ?_
  refine BS_iadd dX8_readBone_161 ?_
  refine BS_pfi p_X8_210 (fun h => by cases h) dX8_readBone_162 ?_
  exact BS_return dX8_readBone_165 rfl
noncomputable def F_X8_readBone_b71 : KK OO :=
  op_ald 0 <| op_call 1 (f_kd 25 F_X8_goesOn) kx_no <| op_ald 0 <| op_ldcs 17 <| op_push (.int 0) <| op_push (.int 24) <| op_call 4 (f_kd 25 F_X8_readPart) kx_no <| op_ist 4 <| op_ald 0 <| op_push (.int 0) <| op_call 2 (f_kd 25 F_X8_readArm) kx_no <| op_ald 0 <| op_push (.int 1) <| op_call 2 (f_kd 25 F_X8_readArm) kx_no <| op_ald 0 <| op_gfi [25] 107 <| op_push (.int 5) <| op_cne (op_ald 0 <| op_lld 1 <| op_push (.int 1) <| op_ald 0 <| op_gfr [25] 102 <| op_gfi [26] 142 <| op_call 4 (f_kd 25 F_X8_names) kx_no <| op_ald 0 <| op_gfr [25] 102 <| op_gfr [26] 149 <| op_ald 0 <| op_gfr [25] 102 <| op_gfi [26] 142 <| op_ild 3 <| op_iast 1 .int <| op_ald 0 <| op_gfr [25] 102 <| op_gfr [26] 150 <| op_ald 0 <| op_gfr [25] 102 <| op_gfi [26] 142 <| op_ild 4 <| op_iast 1 .int <| op_ald 0 <| op_gfr [25] 102 <| op_dup <| op_gfi [26] 142 <| F_X8_readBone_b160) (op_vret)
theorem bs_X8_readBone_b71 : B_S M_X8_readBone 71 (F_X8_readBone_b71) z_O k_O := by
  unfold F_X8_readBone_b71
  refine BS_aload_n dX8_readBone_71 rfl ?_
  refine BS_call (run_V dX8_readBone_72 con_X8_goesOn (ci := 15) rfl rfl q1881 q1883 qs59 q146 q1884 pd_X8_goesOn ⟨Nat.le_of_ble_eq_true rfl, Nat.le_of_ble_eq_true rfl⟩) BV_no ?_
  refine BS_aload_n dX8_readBone_75 rfl ?_
  refine BS_ldcsw dX8_readBone_76 st_X8_280 ?_
  refine BS_iconst dX8_readBone_79 (by decide) ?_
  refine BS_bipush dX8_readBone_80 (by decide) ?_
  refine BS_call (run_V dX8_readBone_82 con_X8_readPart (ci := 15) rfl rfl q1949 q1951 qs66 q146 q1952 pd_X8_readPart ⟨Nat.le_of_ble_eq_true rfl, Nat.le_of_ble_eq_true rfl⟩) BV_no ?_
  refine BS_istore dX8_readBone_85 (Nat.le_of_ble_eq_true rfl) ?_
  refine BS_aload_n dX8_readBone_87 rfl ?_
  refine BS_iconst dX8_readBone_88 (by decide) ?_
  refine BS_call (run_V dX8_readBone_89 con_X8_readArm (ci := 15) rfl rfl q2004 q2006 qs74 q146 q2007 pd_X8_readArm ⟨Nat.le_of_ble_eq_true rfl, Nat.le_of_ble_eq_true rfl⟩) BV_no ?_
  refine BS_aload_n dX8_readBone_92 rfl ?_
  refine BS_iconst dX8_readBone_93 (by decide) ?_
  refine BS_call (run_V dX8_readBone_94 con_X8_readArm (ci := 15) rfl rfl q2004 q2006 qs74 q146 q2007 pd_X8_readArm ⟨Nat.le_of_ble_eq_true rfl, Nat.le_of_ble_eq_true rfl⟩) BV_no ?_
  refine BS_aload_n dX8_readBone_97 rfl ?_
  refine BS_gfi f_X8_85 dX8_readBone_98 ?_
  refine BS_iconst dX8_readBone_101 (by decide) ?_
  refine BS_icmp_ne (tgt := 106) dX8_readBone_102 (by decide) ?_ ?_
  · refine BS_aload_n dX8_readBone_106 rfl ?_
    refine BS_lload_n dX8_readBone_107 rfl ?_
    refine BS_iconst dX8_readBone_108 (by decide) ?_
    refine BS_aload_n dX8_readBone_109 rfl ?_
    refine BS_gfr f_X8_171 dX8_readBone_110 ?_
    refine BS_gfi f_X8_210 dX8_readBone_113 ?_
    refine BS_call (run_V dX8_readBone_116 con_X8_names (ci := 15) rfl rfl q2016 q2018 qs77 q146 q2019 pd_X8_names ⟨Nat.le_of_ble_eq_true rfl, Nat.le_of_ble_eq_true rfl⟩) BV_no ?_
    refine BS_aload_n dX8_readBone_119 rfl ?_
    refine BS_gfr f_X8_171 dX8_readBone_120 ?_
    refine BS_gfr f_X8_288 dX8_readBone_123 ?_
    refine BS_aload_n dX8_readBone_126 rfl ?_
    refine BS_gfr f_X8_171 dX8_readBone_127 ?_
    refine BS_gfi f_X8_210 dX8_readBone_130 ?_
    refine BS_iload_n dX8_readBone_133 rfl ?_
    refine BS_iastore dX8_readBone_134 ?_
    refine BS_aload_n dX8_readBone_135 rfl ?_
    refine BS_gfr f_X8_171 dX8_readBone_136 ?_
    refine BS_gfr f_X8_291 dX8_readBone_139 ?_
    refine BS_aload_n dX8_readBone_142 rfl ?_
    refine BS_gfr f_X8_171 dX8_readBone_143 ?_
    refine BS_gfi f_X8_210 dX8_readBone_146 ?_
    refine BS_iload dX8_readBone_149 ?_
    refine BS_iastore dX8_readBone_151 ?_
    refine BS_aload_n dX8_readBone_152 rfl ?_
    refine BS_gfr f_X8_171 dX8_readBone_153 ?_
    refine BS_dup dX8_readBone_156 ?_
    refine BS_gfi f_X8_210 dX8_readBone_157 ?_
    exact bs_X8_readBone_b160
  · exact BS_return dX8_readBone_105 rfl
noncomputable def F_X8_readBone_b60 : KK OO :=
  op_ist 3 <| op_ild 3 <| op_push (.int (-1)) <| op_cne (F_X8_readBone_b71) (op_ald 0 <| op_push (.int 1) <| op_call 2 (f_kd 25 F_X8_flaw) kx_no <| F_X8_readBone_b71)
theorem bs_X8_readBone_b60 : B_S M_X8_readBone 60 (F_X8_readBone_b60) z_O k_O := by
  unfold F_X8_readBone_b60
  refine BS_istore_n dX8_readBone_60 rfl (Nat.le_of_ble_eq_true rfl) ?_
  refine BS_iload_n dX8_readBone_61 rfl ?_
  refine BS_iconst dX8_readBone_62 (by decide) ?_
  refine BS_icmp_ne (tgt := 71) dX8_readBone_63 (by decide) ?_ ?_
  · exact bs_X8_readBone_b71
  · refine BS_aload_n dX8_readBone_66 rfl ?_
    refine BS_iconst dX8_readBone_67 (by decide) ?_
    refine BS_call (run_V dX8_readBone_68 con_X8_flaw (ci := 15) rfl rfl q1944 q1946 qs65 q146 q1947 pd_X8_flaw ⟨Nat.le_of_ble_eq_true rfl, Nat.le_of_ble_eq_true rfl⟩) BV_no ?_
    exact bs_X8_readBone_b71
noncomputable def F_X8_readBone_b0 : KK OO :=
  op_ald 0 <| op_ald 0 <| op_gfr [25] 102 <| op_gfi [26] 142 <| op_push (.int 5) <| op_call 3 (f_kd 25 F_X8_begins) kx_no <| op_ald 0 <| op_call 1 (f_kd 25 F_X8_readFresh) kx_no <| op_lst 1 <| op_ald 0 <| op_ldcs 14 <| op_call 2 (f_kd 25 F_X8_isWord) kx_no <| op_ieq (op_ald 0 <| op_ldcs 15 <| op_call 2 (f_kd 25 F_X8_isWord) kx_no <| op_ieq (op_ald 0 <| op_ldcs 16 <| op_call 2 (f_kd 25 F_X8_isWord) kx_no <| op_ieq (op_push (.int (-1)) <| F_X8_readBone_b60) (op_push (.int 2) <| F_X8_readBone_b60)) (op_push (.int 1) <| F_X8_readBone_b60)) (op_push (.int 0) <| F_X8_readBone_b60)
theorem bs_X8_readBone_b0 : B_S M_X8_readBone 0 (F_X8_readBone_b0) z_O k_O := by
  unfold F_X8_readBone_b0
  refine BS_aload_n dX8_readBone_0 rfl ?_
  refine BS_aload_n dX8_readBone_1 rfl ?_
  refine BS_gfr f_X8_171 dX8_readBone_2 ?_
  refine BS_gfi f_X8_210 dX8_readBone_5 ?_
  refine BS_iconst dX8_readBone_8 (by decide) ?_
  refine BS_call (run_V dX8_readBone_9 con_X8_begins (ci := 15) rfl rfl q1977 q1979 qs71 q146 q1980 pd_X8_begins ⟨Nat.le_of_ble_eq_true rfl, Nat.le_of_ble_eq_true rfl⟩) BV_no ?_
  refine BS_aload_n dX8_readBone_12 rfl ?_
  refine BS_call (run_V dX8_readBone_13 con_X8_readFresh (ci := 15) rfl rfl q1981 q1983 qs72 q146 q1984 pd_X8_readFresh ⟨Nat.le_of_ble_eq_true rfl, Nat.le_of_ble_eq_true rfl⟩) BV_no ?_
  refine BS_lstore_n dX8_readBone_16 rfl (Nat.le_of_ble_eq_true rfl) ?_
  refine BS_aload_n dX8_readBone_17 rfl ?_
  refine BS_ldcsw dX8_readBone_18 st_X8_274 ?_
  refine BS_call (run_V dX8_readBone_21 con_X8_isWord (ci := 15) rfl rfl q1905 q1907 qs63 q146 q1908 pd_X8_isWord ⟨Nat.le_of_ble_eq_true rfl, Nat.le_of_ble_eq_true rfl⟩) BV_no ?_
  refine BS_if_eq (tgt := 31) dX8_readBone_24 (by decide) ?_ ?_
  · refine BS_aload_n dX8_readBone_31 rfl ?_
    refine BS_ldcsw dX8_readBone_32 st_X8_276 ?_
    refine BS_call (run_V dX8_readBone_35 con_X8_isWord (ci := 15) rfl rfl q1905 q1907 qs63 q146 q1908 pd_X8_isWord ⟨Nat.le_of_ble_eq_true rfl, Nat.le_of_ble_eq_true rfl⟩) BV_no ?_
    refine BS_if_eq (tgt := 45) dX8_readBone_38 (by decide) ?_ ?_
    · refine BS_aload_n dX8_readBone_45 rfl ?_
      refine BS_ldcsw dX8_readBone_46 st_X8_278 ?_
      refine BS_call (run_V dX8_readBone_49 con_X8_isWord (ci := 15) rfl rfl q1905 q1907 qs63 q146 q1908 pd_X8_isWord ⟨Nat.le_of_ble_eq_true rfl, Nat.le_of_ble_eq_true rfl⟩) BV_no ?_
      refine BS_if_eq (tgt := 59) dX8_readBone_52 (by decide) ?_ ?_
      · refine BS_iconst dX8_readBone_59 (by decide) ?_
        exact bs_X8_readBone_b60
      · refine BS_iconst dX8_readBone_55 (by decide) ?_
        refine BS_goto (tgt := 60) dX8_readBone_56 (by decide) ?_
        exact bs_X8_readBone_b60
    · refine BS_iconst dX8_readBone_41 (by decide) ?_
      refine BS_goto (tgt := 60) dX8_readBone_42 (by decide) ?_
      exact bs_X8_readBone_b60
  · refine BS_iconst dX8_readBone_27 (by decide) ?_
    refine BS_goto (tgt := 60) dX8_readBone_28 (by decide) ?_
    exact bs_X8_readBone_b60
noncomputable def F_X8_readBone : FF := mk_F 5 F_X8_readBone_b0
theorem con_X8_readBone : Con_ yX8_readBone (ws_ yX8_readBone cX8_readBone 5 none) 8 175 F_X8_readBone := Con_of (by decide +kernel) bs_X8_readBone_b0
/-- LongerHalfModel.knownOne()I -/
abbrev M_X8_knownOne : MM := (yX8_knownOne, cX8_knownOne, (some .int), 7, 149, 2, [])
theorem pd_X8_knownOne : (yX8_knownOne.cls ≠ "java/lang/invoke/MethodHandle" ∧ yX8_knownOne.cls ≠ "java/lang/invoke/VarHandle") ∧ (parseMethodDescriptor yX8_knownOne.desc).map (fun d => d.parameters.length) = some 0 := ⟨⟨by decide +kernel, by decide +kernel⟩, by decide +kernel⟩
noncomputable def F_X8_knownOne_b46 : KK OO :=
  op_ald 0 <| op_gfi [25] 107 <| op_push (.int 5) <| op_cne (op_ald 0 <| op_gfr [25] 102 <| op_gfr [26] 169 <| op_ild 1 <| op_iald 1 <| op_iret .int) (op_push (.int 0) <| op_iret .int)
theorem bs_X8_knownOne_b46 : B_S M_X8_knownOne 46 (F_X8_knownOne_b46) z_O k_O := by
  unfold F_X8_knownOne_b46
  refine BS_aload_n dX8_knownOne_46 rfl ?_
  refine BS_gfi f_X8_85 dX8_knownOne_47 ?_
  refine BS_iconst dX8_knownOne_50 (by decide) ?_
  refine BS_icmp_ne (tgt := 58) dX8_knownOne_51 (by decide) ?_ ?_
  · refine BS_aload_n dX8_knownOne_58 rfl ?_
    refine BS_gfr f_X8_171 dX8_knownOne_59 ?_
    refine BS_gfr f_X8_198 dX8_knownOne_62 ?_
    refine BS_iload_n dX8_knownOne_65 rfl ?_
    refine BS_iaload dX8_knownOne_66 ?_
    exact BS_ireturn dX8_knownOne_67 rfl
  · refine BS_iconst dX8_knownOne_54 (by decide) ?_
    refine BS_goto (tgt := 67) dX8_knownOne_55 (by decide) ?_
    exact BS_ireturn dX8_knownOne_67 rfl
noncomputable def F_X8_knownOne_b41 : KK OO :=
  op_ald 0 <| op_push (.int 2) <| op_call 2 (f_kd 25 F_X8_flaw) kx_no <| F_X8_knownOne_b46
theorem bs_X8_knownOne_b41 : B_S M_X8_knownOne 41 (F_X8_knownOne_b41) z_O k_O := by
  unfold F_X8_knownOne_b41
  refine BS_aload_n dX8_knownOne_41 rfl ?_
  refine BS_iconst dX8_knownOne_42 (by decide) ?_
  refine BS_call (run_V dX8_knownOne_43 con_X8_flaw (ci := 15) rfl rfl q1944 q1946 qs65 q146 q1947 pd_X8_flaw ⟨Nat.le_of_ble_eq_true rfl, Nat.le_of_ble_eq_true rfl⟩) BV_no ?_
  exact bs_X8_knownOne_b46
noncomputable def F_X8_knownOne_b12 : KK OO :=
  op_ald 0 <| op_gfr [25] 102 <| op_ald 0 <| op_gfl [25] 113 <| op_call 2 (f_kd 26 F_X20_find) kx_no <| op_ist 1 <| op_ild 1 <| op_push (.int (-1)) <| op_ceq (F_X8_knownOne_b41) (op_ald 0 <| op_gfr [25] 102 <| op_gfr [26] 168 <| op_ild 1 <| op_iald 4 <| op_ieq (F_X8_knownOne_b46) (F_X8_knownOne_b41))
theorem bs_X8_knownOne_b12 : B_S M_X8_knownOne 12 (F_X8_knownOne_b12) z_O k_O := by
  unfold F_X8_knownOne_b12
  refine BS_aload_n dX8_knownOne_12 rfl ?_
  refine BS_gfr f_X8_171 dX8_knownOne_13 ?_
  refine BS_aload_n dX8_knownOne_16 rfl ?_
  refine BS_gfl f_X8_104 dX8_knownOne_17 ?_
  refine BS_call (run_V dX8_knownOne_20 con_X20_find (ci := 16) rfl rfl q1996 q1997 q1998 q163 q1999 pd_X20_find ⟨Nat.le_of_ble_eq_true rfl, Nat.le_of_ble_eq_true rfl⟩) BV_no ?_
  refine BS_istore_n dX8_knownOne_23 rfl (Nat.le_of_ble_eq_true rfl) ?_
  refine BS_iload_n dX8_knownOne_24 rfl ?_
  refine BS_iconst dX8_knownOne_25 (by decide) ?_
  refine BS_icmp_eq (tgt := 41) dX8_knownOne_26 (by decide) ?_ ?_
  · exact bs_X8_knownOne_b41
  · refine BS_aload_n dX8_knownOne_29 rfl ?_
    refine BS_gfr f_X8_171 dX8_knownOne_30 ?_
    refine BS_gfr f_X8_195 dX8_knownOne_33 ?_
    refine BS_iload_n dX8_knownOne_36 rfl ?_
    refine BS_zaload dX8_knownOne_37 ?_
    refine BS_if_eq (tgt := 46) dX8_knownOne_38 (by decide) ?_ ?_
    · exact bs_X8_knownOne_b46
    · exact bs_X8_knownOne_b41
noncomputable def F_X8_knownOne_b0 : KK OO :=
  op_ald 0 <| op_call 1 (f_kd 25 F_X8_isName) kx_no <| op_ine (F_X8_knownOne_b12) (op_ald 0 <| op_push (.int 1) <| op_call 2 (f_kd 25 F_X8_flaw) kx_no <| F_X8_knownOne_b12)
theorem bs_X8_knownOne_b0 : B_S M_X8_knownOne 0 (F_X8_knownOne_b0) z_O k_O := by
  unfold F_X8_knownOne_b0
  refine BS_aload_n dX8_knownOne_0 rfl ?_
  refine BS_call (run_V dX8_knownOne_1 con_X8_isName (ci := 15) rfl rfl q1985 q1987 qs73 q146 q1988 pd_X8_isName ⟨Nat.le_of_ble_eq_true rfl, Nat.le_of_ble_eq_true rfl⟩) BV_no ?_
  refine BS_if_ne (tgt := 12) dX8_knownOne_4 (by decide) ?_ ?_
  · exact bs_X8_knownOne_b12
  · refine BS_aload_n dX8_knownOne_7 rfl ?_
    refine BS_iconst dX8_knownOne_8 (by decide) ?_
    refine BS_call (run_V dX8_knownOne_9 con_X8_flaw (ci := 15) rfl rfl q1944 q1946 qs65 q146 q1947 pd_X8_flaw ⟨Nat.le_of_ble_eq_true rfl, Nat.le_of_ble_eq_true rfl⟩) BV_no ?_
    exact bs_X8_knownOne_b12
noncomputable def F_X8_knownOne : FF := mk_F 2 F_X8_knownOne_b0
theorem con_X8_knownOne : Con_ yX8_knownOne (ws_ yX8_knownOne cX8_knownOne 2 (some .int)) 7 149 F_X8_knownOne := Con_of (by decide +kernel) bs_X8_knownOne_b0
/-- LongerHalfModel.readCheats()V -/
abbrev M_X8_readCheats : MM := (yX8_readCheats, cX8_readCheats, none, 8, 173, 5, [])
theorem pd_X8_readCheats : (yX8_readCheats.cls ≠ "java/lang/invoke/MethodHandle" ∧ yX8_readCheats.cls ≠ "java/lang/invoke/VarHandle") ∧ (parseMethodDescriptor yX8_readCheats.desc).map (fun d => d.parameters.length) = some 0 := ⟨⟨by decide +kernel, by decide +kernel⟩, by decide +kernel⟩
noncomputable def F_X8_readCheats_b37 : KK OO :=
  op_ald 0 <| op_call 1 (f_kd 25 F_X8_goesOn) kx_no <| op_ald 0 <| op_push (.int 0) <| op_push (.int 99) <| op_call 3 (f_kd 25 F_X8_readWhole) kx_no <| op_ist 2 <| op_ald 0 <| op_ldcs 4 <| op_push (.int 1) <| op_push (.int 9) <| op_call 4 (f_kd 25 F_X8_readPart) kx_no <| op_ist 3 <| op_ald 0 <| op_ldcs 25 <| op_push (.int 1) <| op_push (.int 9) <| op_call 4 (f_kd 25 F_X8_readPart) kx_no <| op_ist 4 <| op_ald 0 <| op_gfi [25] 107 <| op_push (.int 5) <| op_cne (op_ald 0 <| op_gfr [25] 102 <| op_gfr [26] 164 <| op_ild 1 <| op_ild 2 <| op_iast 1 .int <| op_ald 0 <| op_gfr [25] 102 <| op_gfr [26] 165 <| op_ild 1 <| op_ild 3 <| op_iast 1 .int <| op_ald 0 <| op_gfr [25] 102 <| op_gfr [26] 166 <| op_ild 1 <| op_ild 4 <| op_iast 1 .int <| op_vret) (op_vret)
theorem bs_X8_readCheats_b37 : B_S M_X8_readCheats 37 (F_X8_readCheats_b37) z_O k_O := by
  unfold F_X8_readCheats_b37
  refine BS_aload_n dX8_readCheats_37 rfl ?_
  refine BS_call (run_V dX8_readCheats_38 con_X8_goesOn (ci := 15) rfl rfl q1881 q1883 qs59 q146 q1884 pd_X8_goesOn ⟨Nat.le_of_ble_eq_true rfl, Nat.le_of_ble_eq_true rfl⟩) BV_no ?_
  refine BS_aload_n dX8_readCheats_41 rfl ?_
  refine BS_iconst dX8_readCheats_42 (by decide) ?_
  refine BS_bipush dX8_readCheats_43 (by decide) ?_
  refine BS_call (run_V dX8_readCheats_45 con_X8_readWhole (ci := 15) rfl rfl q1957 q1959 qs68 q146 q1960 pd_X8_readWhole ⟨Nat.le_of_ble_eq_true rfl, Nat.le_of_ble_eq_true rfl⟩) BV_no ?_
  refine BS_istore_n dX8_readCheats_48 rfl (Nat.le_of_ble_eq_true rfl) ?_
  refine BS_aload_n dX8_readCheats_49 rfl ?_
  refine BS_ldcs dX8_readCheats_50 st_X8_247 ?_
  refine BS_iconst dX8_readCheats_52 (by decide) ?_
  refine BS_bipush dX8_readCheats_53 (by decide) ?_
  refine BS_call (run_V dX8_readCheats_55 con_X8_readPart (ci := 15) rfl rfl q1949 q1951 qs66 q146 q1952 pd_X8_readPart ⟨Nat.le_of_ble_eq_true rfl, Nat.le_of_ble_eq_true rfl⟩) BV_no ?_
  refine BS_istore_n dX8_readCheats_58 rfl (Nat.le_of_ble_eq_true rfl) ?_
  refine BS_aload_n dX8_readCheats_59 rfl ?_
  refine BS_ldcsw dX8_readCheats_60 st_X8_358 ?_
  refine BS_iconst dX8_readCheats_63 (by decide) ?_
  refine BS_bipush dX8_readCheats_64 (by decide) ?_
  refine BS_call (run_V dX8_readCheats_66 con_X8_readPart (ci := 15) rfl rfl q1949 q1951 qs66 q146 q1952 pd_X8_readPart ⟨Nat.le_of_ble_eq_true rfl, Nat.le_of_ble_eq_true rfl⟩) BV_no ?_
  refine BS_istore dX8_readCheats_69 (Nat.le_of_ble_eq_true rfl) ?_
  refine BS_aload_n dX8_readCheats_71 rfl ?_
  refine BS_gfi f_X8_85 dX8_readCheats_72 ?_
  refine BS_iconst dX8_readCheats_75 (by decide) ?_
  refine BS_icmp_ne (tgt := 80) dX8_readCheats_76 (by decide) ?_ ?_
  · refine BS_aload_n dX8_readCheats_80 rfl ?_
    refine BS_gfr f_X8_171 dX8_readCheats_81 ?_
    refine BS_gfr f_X8_316 dX8_readCheats_84 ?_
    refine BS_iload_n dX8_readCheats_87 rfl ?_
    refine BS_iload_n dX8_readCheats_88 rfl ?_
    refine BS_iastore dX8_readCheats_89 ?_
    refine BS_aload_n dX8_readCheats_90 rfl ?_
    refine BS_gfr f_X8_171 dX8_readCheats_91 ?_
    refine BS_gfr f_X8_360 dX8_readCheats_94 ?_
    refine BS_iload_n dX8_readCheats_97 rfl ?_
    refine BS_iload_n dX8_readCheats_98 rfl ?_
    refine BS_iastore dX8_readCheats_99 ?_
    refine BS_aload_n dX8_readCheats_100 rfl ?_
    refine BS_gfr f_X8_171 dX8_readCheats_101 ?_
    refine BS_gfr f_X8_363 dX8_readCheats_104 ?_
    refine BS_iload_n dX8_readCheats_107 rfl ?_
    refine BS_iload dX8_readCheats_108 ?_
    refine BS_iastore dX8_readCheats_110 ?_
    exact BS_return dX8_readCheats_111 rfl
  · exact BS_return dX8_readCheats_79 rfl
noncomputable def F_X8_readCheats_b0 : KK OO :=
  op_ald 0 <| op_push (.int 0) <| op_push (.int 1) <| op_call 3 (f_kd 25 F_X8_begins) kx_no <| op_ald 0 <| op_call 1 (f_kd 25 F_X8_knownOne) kx_no <| op_ist 1 <| op_ald 0 <| op_gfi [25] 107 <| op_push (.int 5) <| op_ceq (F_X8_readCheats_b37) (op_ald 0 <| op_gfr [25] 102 <| op_gfr [26] 164 <| op_ild 1 <| op_iald 1 <| op_push (.int (-1)) <| op_ceq (F_X8_readCheats_b37) (op_ald 0 <| op_push (.int 3) <| op_call 2 (f_kd 25 F_X8_flaw) kx_no <| F_X8_readCheats_b37))
theorem bs_X8_readCheats_b0 : B_S M_X8_readCheats 0 (F_X8_readCheats_b0) z_O k_O := by
  unfold F_X8_readCheats_b0
  refine BS_aload_n dX8_readCheats_0 rfl ?_
  refine BS_iconst dX8_readCheats_1 (by decide) ?_
  refine BS_iconst dX8_readCheats_2 (by decide) ?_
  refine BS_call (run_V dX8_readCheats_3 con_X8_begins (ci := 15) rfl rfl q1977 q1979 qs71 q146 q1980 pd_X8_begins ⟨Nat.le_of_ble_eq_true rfl, Nat.le_of_ble_eq_true rfl⟩) BV_no ?_
  refine BS_aload_n dX8_readCheats_6 rfl ?_
  refine BS_call (run_V dX8_readCheats_7 con_X8_knownOne (ci := 15) rfl rfl q2039 q2041 qs81 q146 q2042 pd_X8_knownOne ⟨Nat.le_of_ble_eq_true rfl, Nat.le_of_ble_eq_true rfl⟩) BV_no ?_
  refine BS_istore_n dX8_readCheats_10 rfl (Nat.le_of_ble_eq_true rfl) ?_
  refine BS_aload_n dX8_readCheats_11 rfl ?_
  refine BS_gfi f_X8_85 dX8_readCheats_12 ?_
  refine BS_iconst dX8_readCheats_15 (by decide) ?_
  refine BS_icmp_eq (tgt := 37) dX8_readCheats_16 (by decide) ?_ ?_
  · exact bs_X8_readCheats_b37
  · refine BS_aload_n dX8_readCheats_19 rfl ?_
    refine BS_gfr f_X8_171 dX8_readCheats_20 ?_
    refine BS_gfr f_X8_316 dX8_readCheats_23 ?_
    refine BS_iload_n dX8_readCheats_26 rfl ?_
    refine BS_iaload dX8_readCheats_27 ?_
    refine BS_iconst dX8_readCheats_28 (by decide) ?_
    refine BS_icmp_eq (tgt := 37) dX8_readCheats_29 (by decide) ?_ ?_
    · exact bs_X8_readCheats_b37
    · refine BS_aload_n dX8_readCheats_32 rfl ?_
      refine BS_iconst dX8_readCheats_33 (by decide) ?_
      refine BS_call (run_V dX8_readCheats_34 con_X8_flaw (ci := 15) rfl rfl q1944 q1946 qs65 q146 q1947 pd_X8_flaw ⟨Nat.le_of_ble_eq_true rfl, Nat.le_of_ble_eq_true rfl⟩) BV_no ?_
      exact bs_X8_readCheats_b37
noncomputable def F_X8_readCheats : FF := mk_F 5 F_X8_readCheats_b0
theorem con_X8_readCheats : Con_ yX8_readCheats (ws_ yX8_readCheats cX8_readCheats 5 none) 8 173 F_X8_readCheats := Con_of (by decide +kernel) bs_X8_readCheats_b0
/-- LongerHalfModel.bit(II)Z -/
abbrev M_X8_bit : MM := (yX8_bit, cX8_bit, (some .boolean), 0, 0, 2, [])
theorem pd_X8_bit : (yX8_bit.cls ≠ "java/lang/invoke/MethodHandle" ∧ yX8_bit.cls ≠ "java/lang/invoke/VarHandle") ∧ (parseMethodDescriptor yX8_bit.desc).map (fun d => d.parameters.length) = some 2 := ⟨⟨by decide +kernel, by decide +kernel⟩, by decide +kernel⟩
noncomputable def F_X8_bit_b0 : KK OO :=
  op_ild 0 <| op_ild 1 <| op_i2 (fun x y => x >>> (y &&& 31)) <| op_push (.int 1) <| op_i2 (fun x y => x &&& y) <| op_push (.int 1) <| op_cne (op_push (.int 0) <| op_iret .boolean) (op_push (.int 1) <| op_iret .boolean)
theorem bs_X8_bit_b0 : B_S M_X8_bit 0 (F_X8_bit_b0) z_O k_O := by
  unfold F_X8_bit_b0
  refine BS_iload_n dX8_bit_0 rfl ?_
  refine BS_iload_n dX8_bit_1 rfl ?_
  refine BS_ishr dX8_bit_2 ?_
  refine BS_iconst dX8_bit_3 (by decide) ?_
  refine BS_iand dX8_bit_4 ?_
  refine BS_iconst dX8_bit_5 (by decide) ?_
  refine BS_icmp_ne (tgt := 13) dX8_bit_6 (by decide) ?_ ?_
  · refine BS_iconst dX8_bit_13 (by decide) ?_
    exact BS_ireturn dX8_bit_14 rfl
  · refine BS_iconst dX8_bit_9 (by decide) ?_
    refine BS_goto (tgt := 14) dX8_bit_10 (by decide) ?_
    exact BS_ireturn dX8_bit_14 rfl
noncomputable def F_X8_bit : FF := mk_F 2 F_X8_bit_b0
theorem con_X8_bit : Con_ yX8_bit (ws_ yX8_bit cX8_bit 2 (some .boolean)) 0 0 F_X8_bit := Con_of (by decide +kernel) bs_X8_bit_b0
/-- LongerHalfModel.readPerson()I -/
abbrev M_X8_readPerson : MM := (yX8_readPerson, cX8_readPerson, (some .int), 8, 170, 2, [])
theorem pd_X8_readPerson : (yX8_readPerson.cls ≠ "java/lang/invoke/MethodHandle" ∧ yX8_readPerson.cls ≠ "java/lang/invoke/VarHandle") ∧ (parseMethodDescriptor yX8_readPerson.desc).map (fun d => d.parameters.length) = some 0 := ⟨⟨by decide +kernel, by decide +kernel⟩, by decide +kernel⟩
noncomputable def F_X8_readPerson_b0 : KK OO :=
  op_ald 0 <| op_call 1 (f_kd 25 F_X8_knownOne) kx_no <| op_ist 1 <| op_ald 0 <| op_call 1 (f_kd 25 F_X8_goesOn) kx_no <| op_ild 1 <| op_iret .int
theorem bs_X8_readPerson_b0 : B_S M_X8_readPerson 0 (F_X8_readPerson_b0) z_O k_O := by
  unfold F_X8_readPerson_b0
  refine BS_aload_n dX8_readPerson_0 rfl ?_
  refine BS_call (run_V dX8_readPerson_1 con_X8_knownOne (ci := 15) rfl rfl q2039 q2041 qs81 q146 q2042 pd_X8_knownOne ⟨Nat.le_of_ble_eq_true rfl, Nat.le_of_ble_eq_true rfl⟩) BV_no ?_
  refine BS_istore_n dX8_readPerson_4 rfl (Nat.le_of_ble_eq_true rfl) ?_
  refine BS_aload_n dX8_readPerson_5 rfl ?_
  refine BS_call (run_V dX8_readPerson_6 con_X8_goesOn (ci := 15) rfl rfl q1881 q1883 qs59 q146 q1884 pd_X8_goesOn ⟨Nat.le_of_ble_eq_true rfl, Nat.le_of_ble_eq_true rfl⟩) BV_no ?_
  refine BS_iload_n dX8_readPerson_9 rfl ?_
  exact BS_ireturn dX8_readPerson_10 rfl
noncomputable def F_X8_readPerson : FF := mk_F 2 F_X8_readPerson_b0
theorem con_X8_readPerson : Con_ yX8_readPerson (ws_ yX8_readPerson cX8_readPerson 2 (some .int)) 8 170 F_X8_readPerson := Con_of (by decide +kernel) bs_X8_readPerson_b0
/-- LongerHalfModel.readFor()V -/
abbrev M_X8_readFor : MM := (yX8_readFor, cX8_readFor, none, 9, 191, 4, [])
theorem pd_X8_readFor : (yX8_readFor.cls ≠ "java/lang/invoke/MethodHandle" ∧ yX8_readFor.cls ≠ "java/lang/invoke/VarHandle") ∧ (parseMethodDescriptor yX8_readFor.desc).map (fun d => d.parameters.length) = some 0 := ⟨⟨by decide +kernel, by decide +kernel⟩, by decide +kernel⟩
noncomputable def F_X8_readFor_b57 : KK OO :=
  op_ald 0 <| op_call 1 (f_kd 25 F_X8_goesOn) kx_no <| op_ald 0 <| op_push (.int 0) <| op_push (.int 99) <| op_call 3 (f_kd 25 F_X8_readWhole) kx_no <| op_ist 3 <| op_ald 0 <| op_gfi [25] 107 <| op_push (.int 5) <| op_cne (op_ald 0 <| op_gfr [25] 102 <| op_gfr [26] 157 <| op_ild 1 <| op_dup2 <| op_iald 1 <| op_push (.int 1) <| op_ild 2 <| op_i2 (fun x y => x <<< (y &&& 31)) <| op_i2 (fun x y => x ||| y) <| op_iast 1 .int <| op_ald 0 <| op_gfr [25] 102 <| op_gfr [26] 158 <| op_ild 1 <| op_dup2 <| op_iald 1 <| op_ild 3 <| op_i2 (fun x y => x + y) <| op_iast 1 .int <| op_ald 0 <| op_gfr [25] 102 <| op_dup <| op_gfi [26] 144 <| op_push (.int 1) <| op_i2 (fun x y => x + y) <| op_pfi .int [26] 144 <| op_vret) (op_vret)
theorem bs_X8_readFor_b57 : B_S M_X8_readFor 57 (F_X8_readFor_b57) z_O k_O := by
  unfold F_X8_readFor_b57
  refine BS_aload_n dX8_readFor_57 rfl ?_
  refine BS_call (run_V dX8_readFor_58 con_X8_goesOn (ci := 15) rfl rfl q1881 q1883 qs59 q146 q1884 pd_X8_goesOn ⟨Nat.le_of_ble_eq_true rfl, Nat.le_of_ble_eq_true rfl⟩) BV_no ?_
  refine BS_aload_n dX8_readFor_61 rfl ?_
  refine BS_iconst dX8_readFor_62 (by decide) ?_
  refine BS_bipush dX8_readFor_63 (by decide) ?_
  refine BS_call (run_V dX8_readFor_65 con_X8_readWhole (ci := 15) rfl rfl q1957 q1959 qs68 q146 q1960 pd_X8_readWhole ⟨Nat.le_of_ble_eq_true rfl, Nat.le_of_ble_eq_true rfl⟩) BV_no ?_
  refine BS_istore_n dX8_readFor_68 rfl (Nat.le_of_ble_eq_true rfl) ?_
  refine BS_aload_n dX8_readFor_69 rfl ?_
  refine BS_gfi f_X8_85 dX8_readFor_70 ?_
  refine BS_iconst dX8_readFor_73 (by decide) ?_
  refine BS_icmp_ne (tgt := 78) dX8_readFor_74 (by decide) ?_ ?_
  · refine BS_aload_n dX8_readFor_78 rfl ?_
    refine BS_gfr f_X8_171 dX8_readFor_79 ?_
    refine BS_gfr f_X8_324 dX8_readFor_82 ?_
    refine BS_iload_n dX8_readFor_85 rfl ?_
    refine BS_dup2 dX8_readFor_86 ?_
    refine BS_iaload dX8_readFor_87 ?_
    refine BS_iconst dX8_readFor_88 (by decide) ?_
    refine BS_iload_n dX8_readFor_89 rfl ?_
    refine BS_ishl dX8_readFor_90 ?_
    refine BS_ior dX8_readFor_91 ?_
    refine BS_iastore dX8_readFor_92 ?_
    refine BS_aload_n dX8_readFor_93 rfl ?_
    refine BS_gfr f_X8_171 dX8_readFor_94 ?_
    refine BS_gfr f_X8_331 dX8_readFor_97 ?_
    refine BS_iload_n dX8_readFor_100 rfl ?_
    refine BS_dup2 dX8_readFor_101 ?_
    refine BS_iaload dX8_readFor_102 ?_
    refine BS_iload_n dX8_readFor_103 rfl ?_
    refine BS_iadd dX8_readFor_104 ?_
    refine BS_iastore dX8_readFor_105 ?_
    refine BS_aload_n dX8_readFor_106 rfl ?_
    refine BS_gfr f_X8_171 dX8_readFor_107 ?_
    refine BS_dup dX8_readFor_110 ?_
    refine BS_gfi f_X8_318 dX8_readFor_111 ?_
    refine BS_iconst dX8_readFor_114 (by decide) ?_
    refine BS_iadd dX8_readFor_115 ?_
    refine BS_pfi p_X8_318 (fun h => by cases h) dX8_readFor_116 ?_
    exact BS_return dX8_readFor_119 rfl
  · exact BS_return dX8_readFor_77 rfl
noncomputable def F_X8_readFor_b52 : KK OO :=
  op_ald 0 <| op_push (.int 3) <| op_call 2 (f_kd 25 F_X8_flaw) kx_no <| F_X8_readFor_b57
theorem bs_X8_readFor_b52 : B_S M_X8_readFor 52 (F_X8_readFor_b52) z_O k_O := by
  unfold F_X8_readFor_b52
  refine BS_aload_n dX8_readFor_52 rfl ?_
  refine BS_iconst dX8_readFor_53 (by decide) ?_
  refine BS_call (run_V dX8_readFor_54 con_X8_flaw (ci := 15) rfl rfl q1944 q1946 qs65 q146 q1947 pd_X8_flaw ⟨Nat.le_of_ble_eq_true rfl, Nat.le_of_ble_eq_true rfl⟩) BV_no ?_
  exact bs_X8_readFor_b57
noncomputable def F_X8_readFor_b0 : KK OO :=
  op_ald 0 <| op_ald 0 <| op_gfr [25] 102 <| op_gfi [26] 144 <| op_push (.int 10) <| op_call 3 (f_kd 25 F_X8_begins) kx_no <| op_ald 0 <| op_call 1 (f_kd 25 F_X8_readPerson) kx_no <| op_ist 1 <| op_ald 0 <| op_call 1 (f_kd 25 F_X8_knownOne) kx_no <| op_ist 2 <| op_ald 0 <| op_gfi [25] 107 <| op_push (.int 5) <| op_ceq (F_X8_readFor_b57) (op_ild 1 <| op_ild 2 <| op_ceq (F_X8_readFor_b52) (op_ald 0 <| op_gfr [25] 102 <| op_gfr [26] 157 <| op_ild 1 <| op_iald 1 <| op_ild 2 <| op_call 2 F_X8_bit kx_no <| op_ieq (F_X8_readFor_b57) (F_X8_readFor_b52)))
theorem bs_X8_readFor_b0 : B_S M_X8_readFor 0 (F_X8_readFor_b0) z_O k_O := by
  unfold F_X8_readFor_b0
  refine BS_aload_n dX8_readFor_0 rfl ?_
  refine BS_aload_n dX8_readFor_1 rfl ?_
  refine BS_gfr f_X8_171 dX8_readFor_2 ?_
  refine BS_gfi f_X8_318 dX8_readFor_5 ?_
  refine BS_bipush dX8_readFor_8 (by decide) ?_
  refine BS_call (run_V dX8_readFor_10 con_X8_begins (ci := 15) rfl rfl q1977 q1979 qs71 q146 q1980 pd_X8_begins ⟨Nat.le_of_ble_eq_true rfl, Nat.le_of_ble_eq_true rfl⟩) BV_no ?_
  refine BS_aload_n dX8_readFor_13 rfl ?_
  refine BS_call (run_V dX8_readFor_14 con_X8_readPerson (ci := 15) rfl rfl q2035 q2037 qs80 q146 q2038 pd_X8_readPerson ⟨Nat.le_of_ble_eq_true rfl, Nat.le_of_ble_eq_true rfl⟩) BV_no ?_
  refine BS_istore_n dX8_readFor_17 rfl (Nat.le_of_ble_eq_true rfl) ?_
  refine BS_aload_n dX8_readFor_18 rfl ?_
  refine BS_call (run_V dX8_readFor_19 con_X8_knownOne (ci := 15) rfl rfl q2039 q2041 qs81 q146 q2042 pd_X8_knownOne ⟨Nat.le_of_ble_eq_true rfl, Nat.le_of_ble_eq_true rfl⟩) BV_no ?_
  refine BS_istore_n dX8_readFor_22 rfl (Nat.le_of_ble_eq_true rfl) ?_
  refine BS_aload_n dX8_readFor_23 rfl ?_
  refine BS_gfi f_X8_85 dX8_readFor_24 ?_
  refine BS_iconst dX8_readFor_27 (by decide) ?_
  refine BS_icmp_eq (tgt := 57) dX8_readFor_28 (by decide) ?_ ?_
  · exact bs_X8_readFor_b57
  · refine BS_iload_n dX8_readFor_31 rfl ?_
    refine BS_iload_n dX8_readFor_32 rfl ?_
    refine BS_icmp_eq (tgt := 52) dX8_readFor_33 (by decide) ?_ ?_
    · exact bs_X8_readFor_b52
    · refine BS_aload_n dX8_readFor_36 rfl ?_
      refine BS_gfr f_X8_171 dX8_readFor_37 ?_
      refine BS_gfr f_X8_324 dX8_readFor_40 ?_
      refine BS_iload_n dX8_readFor_43 rfl ?_
      refine BS_iaload dX8_readFor_44 ?_
      refine BS_iload_n dX8_readFor_45 rfl ?_
      refine BS_call (run_S dX8_readFor_46 con_X8_bit q2043 q2044 q146 q2045 pd_X8_bit ⟨Nat.le_of_ble_eq_true rfl, Nat.le_of_ble_eq_true rfl⟩) BV_no ?_
      refine BS_if_eq (tgt := 57) dX8_readFor_49 (by decide) ?_ ?_
      · exact bs_X8_readFor_b57
      · exact bs_X8_readFor_b52
noncomputable def F_X8_readFor : FF := mk_F 4 F_X8_readFor_b0
theorem con_X8_readFor : Con_ yX8_readFor (ws_ yX8_readFor cX8_readFor 4 none) 9 191 F_X8_readFor := Con_of (by decide +kernel) bs_X8_readFor_b0
/-- LongerHalfModel.readKitchen()V -/
abbrev M_X8_readKitchen : MM := (yX8_readKitchen, cX8_readKitchen, none, 8, 173, 6, [])
theorem pd_X8_readKitchen : (yX8_readKitchen.cls ≠ "java/lang/invoke/MethodHandle" ∧ yX8_readKitchen.cls ≠ "java/lang/invoke/VarHandle") ∧ (parseMethodDescriptor yX8_readKitchen.desc).map (fun d => d.parameters.length) = some 0 := ⟨⟨by decide +kernel, by decide +kernel⟩, by decide +kernel⟩
noncomputable def F_X8_readKitchen_b98 : KK OO :=
  op_gfr [25] 102 <| op_ild 2 <| op_pfi .int [26] 138 <| op_ald 0 <| op_gfr [25] 102 <| op_ild 3 <| op_pfi .int [26] 139 <| op_ald 0 <| op_gfr [25] 102 <| op_ild 4 <| op_pfi .int [26] 140 <| op_ald 0 <| op_gfr [25] 102 <| op_ild 5 <| op_pfi .int [26] 141 <| op_vret
theorem bs_X8_readKitchen_b98 : B_S M_X8_readKitchen 98 (F_X8_readKitchen_b98) z_O k_O := by
  unfold F_X8_readKitchen_b98
  refine BS_gfr f_X8_171 dX8_readKitchen_98 ?_
  refine BS_iload_n dX8_readKitchen_101 rfl ?_
  refine BS_pfi p_X8_252 (fun h => by cases h) dX8_readKitchen_102 ?_
  refine BS_aload_n dX8_readKitchen_105 rfl ?_
  refine BS_gfr f_X8_171 dX8_readKitchen_106 ?_
  refine BS_iload_n dX8_readKitchen_109 rfl ?_
  refine BS_pfi p_X8_254 (fun h => by cases h) dX8_readKitchen_110 ?_
  refine BS_aload_n dX8_readKitchen_113 rfl ?_
  refine BS_gfr f_X8_171 dX8_readKitchen_114 ?_
  refine BS_iload dX8_readKitchen_117 ?_
  refine BS_pfi p_X8_256 (fun h => by cases h) dX8_readKitchen_119 ?_
  refine BS_aload_n dX8_readKitchen_122 rfl ?_
  refine BS_gfr f_X8_171 dX8_readKitchen_123 ?_
  refine BS_iload dX8_readKitchen_126 ?_
  refine BS_pfi p_X8_258 (fun h => by cases h) dX8_readKitchen_128 ?_
  exact BS_return dX8_readKitchen_131 rfl
noncomputable def F_X8_readKitchen_b15 : KK OO :=
  op_ald 0 <| op_call 1 (f_kd 25 F_X8_goesOn) kx_no <| op_ald 0 <| op_ldcs 1 <| op_push (.int 0) <| op_push (.int 9) <| op_call 4 (f_kd 25 F_X8_readPart) kx_no <| op_ist 1 <| op_ald 0 <| op_ldcs 2 <| op_push (.int 25) <| op_push (.int 60) <| op_call 4 (f_kd 25 F_X8_readPart) kx_no <| op_ist 2 <| op_ald 0 <| op_ldcs 3 <| op_push (.int 0) <| op_push (.int 99) <| op_call 4 (f_kd 25 F_X8_readPart) kx_no <| op_ist 3 <| op_ald 0 <| op_ldcs 4 <| op_push (.int 0) <| op_push (.int 99) <| op_call 4 (f_kd 25 F_X8_readPart) kx_no <| op_ist 4 <| op_ald 0 <| op_ldcs 5 <| op_push (.int 0) <| op_push (.int 99) <| op_call 4 (f_kd 25 F_X8_readPart) kx_no <| op_ist 5 <| op_ald 0 <| op_gfi [25] 107 <| op_push (.int 5) <| op_cne (op_ald 0 <| op_gfr [25] 102 <| op_push (.int 1) <| op_pfi .boolean [26] 148 <| op_ald 0 <| op_gfr [25] 102 <| op_ild 1 <| op_pfi .int [26] 137 <| op_ald 0 <| F_X8_readKitchen_b98) (op_vret)
theorem bs_X8_readKitchen_b15 : B_S M_X8_readKitchen 15 (F_X8_readKitchen_b15) z_O k_O := by
  unfold F_X8_readKitchen_b15
  refine BS_aload_n dX8_readKitchen_15 rfl ?_
  refine BS_call (run_V dX8_readKitchen_16 con_X8_goesOn (ci := 15) rfl rfl q1881 q1883 qs59 q146 q1884 pd_X8_goesOn ⟨Nat.le_of_ble_eq_true rfl, Nat.le_of_ble_eq_true rfl⟩) BV_no ?_
  refine BS_aload_n dX8_readKitchen_19 rfl ?_
  refine BS_ldcs dX8_readKitchen_20 st_X8_237 ?_
  refine BS_iconst dX8_readKitchen_22 (by decide) ?_
  refine BS_bipush dX8_readKitchen_23 (by decide) ?_
  refine BS_call (run_V dX8_readKitchen_25 con_X8_readPart (ci := 15) rfl rfl q1949 q1951 qs66 q146 q1952 pd_X8_readPart ⟨Nat.le_of_ble_eq_true rfl, Nat.le_of_ble_eq_true rfl⟩) BV_no ?_
  refine BS_istore_n dX8_readKitchen_28 rfl (Nat.le_of_ble_eq_true rfl) ?_
  refine BS_aload_n dX8_readKitchen_29 rfl ?_
  refine BS_ldcs dX8_readKitchen_30 st_X8_243 ?_
  refine BS_bipush dX8_readKitchen_32 (by decide) ?_
  refine BS_bipush dX8_readKitchen_34 (by decide) ?_
  refine BS_call (run_V dX8_readKitchen_36 con_X8_readPart (ci := 15) rfl rfl q1949 q1951 qs66 q146 q1952 pd_X8_readPart ⟨Nat.le_of_ble_eq_true rfl, Nat.le_of_ble_eq_true rfl⟩) BV_no ?_
  refine BS_istore_n dX8_readKitchen_39 rfl (Nat.le_of_ble_eq_true rfl) ?_
  refine BS_aload_n dX8_readKitchen_40 rfl ?_
  refine BS_ldcs dX8_readKitchen_41 st_X8_245 ?_
  refine BS_iconst dX8_readKitchen_43 (by decide) ?_
  refine BS_bipush dX8_readKitchen_44 (by decide) ?_
  refine BS_call (run_V dX8_readKitchen_46 con_X8_readPart (ci := 15) rfl rfl q1949 q1951 qs66 q146 q1952 pd_X8_readPart ⟨Nat.le_of_ble_eq_true rfl, Nat.le_of_ble_eq_true rfl⟩) BV_no ?_
  refine BS_istore_n dX8_readKitchen_49 rfl (Nat.le_of_ble_eq_true rfl) ?_
  refine BS_aload_n dX8_readKitchen_50 rfl ?_
  refine BS_ldcs dX8_readKitchen_51 st_X8_247 ?_
  refine BS_iconst dX8_readKitchen_53 (by decide) ?_
  refine BS_bipush dX8_readKitchen_54 (by decide) ?_
  refine BS_call (run_V dX8_readKitchen_56 con_X8_readPart (ci := 15) rfl rfl q1949 q1951 qs66 q146 q1952 pd_X8_readPart ⟨Nat.le_of_ble_eq_true rfl, Nat.le_of_ble_eq_true rfl⟩) BV_no ?_
  refine BS_istore dX8_readKitchen_59 (Nat.le_of_ble_eq_true rfl) ?_
  refine BS_aload_n dX8_readKitchen_61 rfl ?_
  refine BS_ldcs dX8_readKitchen_62 st_X8_249 ?_
  refine BS_iconst dX8_readKitchen_64 (by decide) ?_
  refine BS_bipush dX8_readKitchen_65 (by decide) ?_
  refine BS_call (run_V dX8_readKitchen_67 con_X8_readPart (ci := 15) rfl rfl q1949 q1951 qs66 q146 q1952 pd_X8_readPart ⟨Nat.le_of_ble_eq_true rfl, Nat.le_of_ble_eq_true rfl⟩) BV_no ?_
  refine BS_istore dX8_readKitchen_70 (Nat.le_of_ble_eq_true rfl) ?_
  refine BS_aload_n dX8_readKitchen_72 rfl ?_
  refine BS_gfi f_X8_85 dX8_readKitchen_73 ?_
  refine BS_iconst dX8_readKitchen_76 (by decide) ?_
  refine BS_icmp_ne (tgt := 81) dX8_readKitchen_77 (by decide) ?_ ?_
  · refine BS_aload_n dX8_readKitchen_81 rfl ?_
    refine BS_gfr f_X8_171 dX8_readKitchen_82 ?_
    refine BS_iconst dX8_readKitchen_85 (by decide) ?_
    refine BS_pfi p_X8_175 (fun h => by cases h) dX8_readKitchen_86 ?_
    refine BS_aload_n dX8_readKitchen_89 rfl ?_
    refine BS_gfr f_X8_171 dX8_readKitchen_90 ?_
    refine BS_iload_n dX8_readKitchen_93 rfl ?_
    refine BS_pfi p_X8_250 (fun h => by cases h) dX8_readKitchen_94 ?_
    refine BS_aload_n dX8_readKitchen_97 rfl ?_
    exact bs_X8_readKitchen_b98
  · exact BS_return dX8_readKitchen_80 rfl
noncomputable def F_X8_readKitchen_b0 : KK OO :=
  op_ald 0 <| op_gfr [25] 102 <| op_gfi [26] 148 <| op_ieq (F_X8_readKitchen_b15) (op_ald 0 <| op_push (.int 3) <| op_call 2 (f_kd 25 F_X8_flaw) kx_no <| F_X8_readKitchen_b15)
theorem bs_X8_readKitchen_b0 : B_S M_X8_readKitchen 0 (F_X8_readKitchen_b0) z_O k_O := by
  unfold F_X8_readKitchen_b0
  refine BS_aload_n dX8_readKitchen_0 rfl ?_
  refine BS_gfr f_X8_171 dX8_readKitchen_1 ?_
  refine BS_gfi f_X8_175 dX8_readKitchen_4 ?_
  refine BS_if_eq (tgt := 15) dX8_readKitchen_7 (by decide) ?_ ?_
  · exact bs_X8_readKitchen_b15
  · refine BS_aload_n dX8_readKitchen_10 rfl ?_
    refine BS_iconst dX8_readKitchen_11 (by decide) ?_
    refine BS_call (run_V dX8_readKitchen_12 con_X8_flaw (ci := 15) rfl rfl q1944 q1946 qs65 q146 q1947 pd_X8_flaw ⟨Nat.le_of_ble_eq_true rfl, Nat.le_of_ble_eq_true rfl⟩) BV_no ?_
    exact bs_X8_readKitchen_b15
noncomputable def F_X8_readKitchen : FF := mk_F 6 F_X8_readKitchen_b0
theorem con_X8_readKitchen : Con_ yX8_readKitchen (ws_ yX8_readKitchen cX8_readKitchen 6 none) 8 173 F_X8_readKitchen := Con_of (by decide +kernel) bs_X8_readKitchen_b0
/-- LongerHalfModel.readPersonLine()V -/
abbrev M_X8_readPersonLine : MM := (yX8_readPersonLine, cX8_readPersonLine, none, 8, 173, 8, [])
theorem pd_X8_readPersonLine : (yX8_readPersonLine.cls ≠ "java/lang/invoke/MethodHandle" ∧ yX8_readPersonLine.cls ≠ "java/lang/invoke/VarHandle") ∧ (parseMethodDescriptor yX8_readPersonLine.desc).map (fun d => d.parameters.length) = some 0 := ⟨⟨by decide +kernel, by decide +kernel⟩, by decide +kernel⟩
noncomputable def F_X8_readPersonLine_b175 : KK OO :=
  op_ald 0 <| op_gfr [25] 102 <| op_gfr [26] 155 <| op_ild 7 <| op_ild 5 <| op_iast 1 .int <| op_ald 0 <| op_gfr [25] 102 <| op_gfr [26] 156 <| op_ild 7 <| op_ild 6 <| op_iast 1 .int <| op_ald 0 <| op_gfr [25] 102 <| op_gfr [26] 164 <| op_ild 7 <| op_push (.int (-1)) <| op_iast 1 .int <| op_ald 0 <| op_gfr [25] 102 <| op_dup <| op_gfi [26] 143 <| op_push (.int 1) <| op_i2 (fun x y => x + y) <| op_pfi .int [26] 143 <| op_vret
theorem bs_X8_readPersonLine_b175 : B_S M_X8_readPersonLine 175 (F_X8_readPersonLine_b175) z_O k_O := by
  unfold F_X8_readPersonLine_b175
  refine BS_aload_n dX8_readPersonLine_175 rfl ?_
  refine BS_gfr f_X8_171 dX8_readPersonLine_176 ?_
  refine BS_gfr f_X8_312 dX8_readPersonLine_179 ?_
  refine BS_iload dX8_readPersonLine_182 ?_
  refine BS_iload dX8_readPersonLine_184 ?_
  refine BS_iastore dX8_readPersonLine_186 ?_
  refine BS_aload_n dX8_readPersonLine_187 rfl ?_
  refine BS_gfr f_X8_171 dX8_readPersonLine_188 ?_
  refine BS_gfr f_X8_314 dX8_readPersonLine_191 ?_
  refine BS_iload dX8_readPersonLine_194 ?_
  refine BS_iload dX8_readPersonLine_196 ?_
  refine BS_iastore dX8_readPersonLine_198 ?_
  refine BS_aload_n dX8_readPersonLine_199 rfl ?_
  refine BS_gfr f_X8_171 dX8_readPersonLine_200 ?_
  refine BS_gfr f_X8_316 dX8_readPersonLine_203 ?_
  refine BS_iload dX8_readPersonLine_206 ?_
  refine BS_iconst dX8_readPersonLine_208 (by decide) ?_
  refine BS_iastore dX8_readPersonLine_209 ?_
  refine BS_aload_n dX8_readPersonLine_210 rfl ?_
  refine BS_gfr f_X8_171 dX8_readPersonLine_211 ?_
  refine BS_dup dX8_readPersonLine_214 ?_
  refine BS_gfi f_X8_213 dX8_readPersonLine_215 ?_
  refine BS_iconst dX8_readPersonLine_218 (by decide) ?_
  refine BS_iadd dX8_readPersonLine_219 ?_
  refine BS_pfi p_X8_213 (fun h => by cases h) dX8_readPersonLine_220 ?_
  exact BS_return dX8_readPersonLine_223 rfl
noncomputable def F_X8_readPersonLine_b86 : KK OO :=
  op_ald 0 <| op_call 1 (f_kd 25 F_X8_goesOn) kx_no <| op_ald 0 <| op_ldcs 22 <| op_push (.int 1) <| op_push (.int 40) <| op_call 4 (f_kd 25 F_X8_readPart) kx_no <| op_ist 4 <| op_ald 0 <| op_ldcs 23 <| op_push (.int 1) <| op_push (.int 6) <| op_call 4 (f_kd 25 F_X8_readPart) kx_no <| op_ist 5 <| op_ald 0 <| op_ldcs 24 <| op_push (.int 0) <| op_push (.int 99) <| op_call 4 (f_kd 25 F_X8_readPart) kx_no <| op_ist 6 <| op_ald 0 <| op_gfi [25] 107 <| op_push (.int 5) <| op_cne (op_ald 0 <| op_gfr [25] 102 <| op_gfi [26] 143 <| op_ist 7 <| op_ald 0 <| op_lld 1 <| op_push (.int 0) <| op_ild 7 <| op_call 4 (f_kd 25 F_X8_names) kx_no <| op_ald 0 <| op_gfr [25] 102 <| op_gfr [26] 153 <| op_ild 7 <| op_ild 3 <| op_iast 1 .int <| op_ald 0 <| op_gfr [25] 102 <| op_gfr [26] 154 <| op_ild 7 <| op_ild 4 <| op_iast 1 .int <| F_X8_readPersonLine_b175) (op_vret)
theorem bs_X8_readPersonLine_b86 : B_S M_X8_readPersonLine 86 (F_X8_readPersonLine_b86) z_O k_O := by
  unfold F_X8_readPersonLine_b86
  refine BS_aload_n dX8_readPersonLine_86 rfl ?_
  refine BS_call (run_V dX8_readPersonLine_87 con_X8_goesOn (ci := 15) rfl rfl q1881 q1883 qs59 q146 q1884 pd_X8_goesOn ⟨Nat.le_of_ble_eq_true rfl, Nat.le_of_ble_eq_true rfl⟩) BV_no ?_
  refine BS_aload_n dX8_readPersonLine_90 rfl ?_
  refine BS_ldcsw dX8_readPersonLine_91 st_X8_301 ?_
  refine BS_iconst dX8_readPersonLine_94 (by decide) ?_
  refine BS_bipush dX8_readPersonLine_95 (by decide) ?_
  refine BS_call (run_V dX8_readPersonLine_97 con_X8_readPart (ci := 15) rfl rfl q1949 q1951 qs66 q146 q1952 pd_X8_readPart ⟨Nat.le_of_ble_eq_true rfl, Nat.le_of_ble_eq_true rfl⟩) BV_no ?_
  refine BS_istore dX8_readPersonLine_100 (Nat.le_of_ble_eq_true rfl) ?_
  refine BS_aload_n dX8_readPersonLine_102 rfl ?_
  refine BS_ldcsw dX8_readPersonLine_103 st_X8_303 ?_
  refine BS_iconst dX8_readPersonLine_106 (by decide) ?_
  refine BS_bipush dX8_readPersonLine_107 (by decide) ?_
  refine BS_call (run_V dX8_readPersonLine_109 con_X8_readPart (ci := 15) rfl rfl q1949 q1951 qs66 q146 q1952 pd_X8_readPart ⟨Nat.le_of_ble_eq_true rfl, Nat.le_of_ble_eq_true rfl⟩) BV_no ?_
  refine BS_istore dX8_readPersonLine_112 (Nat.le_of_ble_eq_true rfl) ?_
  refine BS_aload_n dX8_readPersonLine_114 rfl ?_
  refine BS_ldcsw dX8_readPersonLine_115 st_X8_305 ?_
  refine BS_iconst dX8_readPersonLine_118 (by decide) ?_
  refine BS_bipush dX8_readPersonLine_119 (by decide) ?_
  refine BS_call (run_V dX8_readPersonLine_121 con_X8_readPart (ci := 15) rfl rfl q1949 q1951 qs66 q146 q1952 pd_X8_readPart ⟨Nat.le_of_ble_eq_true rfl, Nat.le_of_ble_eq_true rfl⟩) BV_no ?_
  refine BS_istore dX8_readPersonLine_124 (Nat.le_of_ble_eq_true rfl) ?_
  refine BS_aload_n dX8_readPersonLine_126 rfl ?_
  refine BS_gfi f_X8_85 dX8_readPersonLine_127 ?_
  refine BS_iconst dX8_readPersonLine_130 (by decide) ?_
  refine BS_icmp_ne (tgt := 135) dX8_readPersonLine_131 (by decide) ?_ ?_
  · refine BS_aload_n dX8_readPersonLine_135 rfl ?_
    refine BS_gfr f_X8_171 dX8_readPersonLine_136 ?_
    refine BS_gfi f_X8_213 dX8_readPersonLine_139 ?_
    refine BS_istore dX8_readPersonLine_142 (Nat.le_of_ble_eq_true rfl) ?_
    refine BS_aload_n dX8_readPersonLine_144 rfl ?_
    refine BS_lload_n dX8_readPersonLine_145 rfl ?_
    refine BS_iconst dX8_readPersonLine_146 (by decide) ?_
    refine BS_iload dX8_readPersonLine_147 ?_
    refine BS_call (run_V dX8_readPersonLine_149 con_X8_names (ci := 15) rfl rfl q2016 q2018 qs77 q146 q2019 pd_X8_names ⟨Nat.le_of_ble_eq_true rfl, Nat.le_of_ble_eq_true rfl⟩) BV_no ?_
    refine BS_aload_n dX8_readPersonLine_152 rfl ?_
    refine BS_gfr f_X8_171 dX8_readPersonLine_153 ?_
    refine BS_gfr f_X8_307 dX8_readPersonLine_156 ?_
    refine BS_iload dX8_readPersonLine_159 ?_
    refine BS_iload_n dX8_readPersonLine_161 rfl ?_
    refine BS_iastore dX8_readPersonLine_162 ?_
    refine BS_aload_n dX8_readPersonLine_163 rfl ?_
    refine BS_gfr f_X8_171 dX8_readPersonLine_164 ?_
    refine BS_gfr f_X8_310 dX8_readPersonLine_167 ?_
    refine BS_iload dX8_readPersonLine_170 ?_
    refine BS_iload dX8_readPersonLine_172 ?_
    refine BS_iastore dX8_readPersonLine_174 ?_
    exact bs_X8_readPersonLine_b175
  · exact BS_return dX8_readPersonLine_134 rfl
noncomputable def F_X8_readPersonLine_b75 : KK OO :=
  op_ist 3 <| op_ild 3 <| op_push (.int (-1)) <| op_cne (F_X8_readPersonLine_b86) (op_ald 0 <| op_push (.int 1) <| op_call 2 (f_kd 25 F_X8_flaw) kx_no <| F_X8_readPersonLine_b86)
theorem bs_X8_readPersonLine_b75 : B_S M_X8_readPersonLine 75 (F_X8_readPersonLine_b75) z_O k_O := by
  unfold F_X8_readPersonLine_b75
  refine BS_istore_n dX8_readPersonLine_75 rfl (Nat.le_of_ble_eq_true rfl) ?_
  refine BS_iload_n dX8_readPersonLine_76 rfl ?_
  refine BS_iconst dX8_readPersonLine_77 (by decide) ?_
  refine BS_icmp_ne (tgt := 86) dX8_readPersonLine_78 (by decide) ?_ ?_
  · exact bs_X8_readPersonLine_b86
  · refine BS_aload_n dX8_readPersonLine_81 rfl ?_
    refine BS_iconst dX8_readPersonLine_82 (by decide) ?_
    refine BS_call (run_V dX8_readPersonLine_83 con_X8_flaw (ci := 15) rfl rfl q1944 q1946 qs65 q146 q1947 pd_X8_flaw ⟨Nat.le_of_ble_eq_true rfl, Nat.le_of_ble_eq_true rfl⟩) BV_no ?_
    exact bs_X8_readPersonLine_b86
noncomputable def F_X8_readPersonLine_b0 : KK OO :=
  op_ald 0 <| op_ald 0 <| op_gfr [25] 102 <| op_gfi [26] 143 <| op_push (.int 6) <| op_call 3 (f_kd 25 F_X8_begins) kx_no <| op_ald 0 <| op_call 1 (f_kd 25 F_X8_readFresh) kx_no <| op_lst 1 <| op_ald 0 <| op_ldcs 18 <| op_call 2 (f_kd 25 F_X8_isWord) kx_no <| op_ieq (op_ald 0 <| op_ldcs 19 <| op_call 2 (f_kd 25 F_X8_isWord) kx_no <| op_ieq (op_ald 0 <| op_ldcs 20 <| op_call 2 (f_kd 25 F_X8_isWord) kx_no <| op_ieq (op_ald 0 <| op_ldcs 21 <| op_call 2 (f_kd 25 F_X8_isWord) kx_no <| op_ieq (op_push (.int (-1)) <| F_X8_readPersonLine_b75) (op_push (.int 3) <| F_X8_readPersonLine_b75)) (op_push (.int 2) <| F_X8_readPersonLine_b75)) (op_push (.int 1) <| F_X8_readPersonLine_b75)) (op_push (.int 0) <| F_X8_readPersonLine_b75)
theorem bs_X8_readPersonLine_b0 : B_S M_X8_readPersonLine 0 (F_X8_readPersonLine_b0) z_O k_O := by
  unfold F_X8_readPersonLine_b0
  refine BS_aload_n dX8_readPersonLine_0 rfl ?_
  refine BS_aload_n dX8_readPersonLine_1 rfl ?_
  refine BS_gfr f_X8_171 dX8_readPersonLine_2 ?_
  refine BS_gfi f_X8_213 dX8_readPersonLine_5 ?_
  refine BS_bipush dX8_readPersonLine_8 (by decide) ?_
  refine BS_call (run_V dX8_readPersonLine_10 con_X8_begins (ci := 15) rfl rfl q1977 q1979 qs71 q146 q1980 pd_X8_begins ⟨Nat.le_of_ble_eq_true rfl, Nat.le_of_ble_eq_true rfl⟩) BV_no ?_
  refine BS_aload_n dX8_readPersonLine_13 rfl ?_
  refine BS_call (run_V dX8_readPersonLine_14 con_X8_readFresh (ci := 15) rfl rfl q1981 q1983 qs72 q146 q1984 pd_X8_readFresh ⟨Nat.le_of_ble_eq_true rfl, Nat.le_of_ble_eq_true rfl⟩) BV_no ?_
  refine BS_lstore_n dX8_readPersonLine_17 rfl (Nat.le_of_ble_eq_true rfl) ?_
  refine BS_aload_n dX8_readPersonLine_18 rfl ?_
  refine BS_ldcsw dX8_readPersonLine_19 st_X8_293 ?_
  refine BS_call (run_V dX8_readPersonLine_22 con_X8_isWord (ci := 15) rfl rfl q1905 q1907 qs63 q146 q1908 pd_X8_isWord ⟨Nat.le_of_ble_eq_true rfl, Nat.le_of_ble_eq_true rfl⟩) BV_no ?_
  refine BS_if_eq (tgt := 32) dX8_readPersonLine_25 (by decide) ?_ ?_
  · refine BS_aload_n dX8_readPersonLine_32 rfl ?_
    refine BS_ldcsw dX8_readPersonLine_33 st_X8_295 ?_
    refine BS_call (run_V dX8_readPersonLine_36 con_X8_isWord (ci := 15) rfl rfl q1905 q1907 qs63 q146 q1908 pd_X8_isWord ⟨Nat.le_of_ble_eq_true rfl, Nat.le_of_ble_eq_true rfl⟩) BV_no ?_
    refine BS_if_eq (tgt := 46) dX8_readPersonLine_39 (by decide) ?_ ?_
    · refine BS_aload_n dX8_readPersonLine_46 rfl ?_
      refine BS_ldcsw dX8_readPersonLine_47 st_X8_297 ?_
      refine BS_call (run_V dX8_readPersonLine_50 con_X8_isWord (ci := 15) rfl rfl q1905 q1907 qs63 q146 q1908 pd_X8_isWord ⟨Nat.le_of_ble_eq_true rfl, Nat.le_of_ble_eq_true rfl⟩) BV_no ?_
      refine BS_if_eq (tgt := 60) dX8_readPersonLine_53 (by decide) ?_ ?_
      · refine BS_aload_n dX8_readPersonLine_60 rfl ?_
        refine BS_ldcsw dX8_readPersonLine_61 st_X8_299 ?_
        refine BS_call (run_V dX8_readPersonLine_64 con_X8_isWord (ci := 15) rfl rfl q1905 q1907 qs63 q146 q1908 pd_X8_isWord ⟨Nat.le_of_ble_eq_true rfl, Nat.le_of_ble_eq_true rfl⟩) BV_no ?_
        refine BS_if_eq (tgt := 74) dX8_readPersonLine_67 (by decide) ?_ ?_
        · refine BS_iconst dX8_readPersonLine_74 (by decide) ?_
          exact bs_X8_readPersonLine_b75
        · refine BS_iconst dX8_readPersonLine_70 (by decide) ?_
          refine BS_goto (tgt := 75) dX8_readPersonLine_71 (by decide) ?_
          exact bs_X8_readPersonLine_b75
      · refine BS_iconst dX8_readPersonLine_56 (by decide) ?_
        refine BS_goto (tgt := 75) dX8_readPersonLine_57 (by decide) ?_
        exact bs_X8_readPersonLine_b75
    · refine BS_iconst dX8_readPersonLine_42 (by decide) ?_
      refine BS_goto (tgt := 75) dX8_readPersonLine_43 (by decide) ?_
      exact bs_X8_readPersonLine_b75
  · refine BS_iconst dX8_readPersonLine_28 (by decide) ?_
    refine BS_goto (tgt := 75) dX8_readPersonLine_29 (by decide) ?_
    exact bs_X8_readPersonLine_b75
noncomputable def F_X8_readPersonLine : FF := mk_F 8 F_X8_readPersonLine_b0
theorem con_X8_readPersonLine : Con_ yX8_readPersonLine (ws_ yX8_readPersonLine cX8_readPersonLine 8 none) 8 173 F_X8_readPersonLine := Con_of (by decide +kernel) bs_X8_readPersonLine_b0
/-- LongerHalfModel.readSide()I -/
abbrev M_X8_readSide : MM := (yX8_readSide, cX8_readSide, (some .int), 6, 129, 2, [])
theorem pd_X8_readSide : (yX8_readSide.cls ≠ "java/lang/invoke/MethodHandle" ∧ yX8_readSide.cls ≠ "java/lang/invoke/VarHandle") ∧ (parseMethodDescriptor yX8_readSide.desc).map (fun d => d.parameters.length) = some 0 := ⟨⟨by decide +kernel, by decide +kernel⟩, by decide +kernel⟩
noncomputable def F_X8_readSide_b33 : KK OO :=
  op_ald 0 <| op_call 1 (f_kd 25 F_X8_goesOn) kx_no <| op_ild 1 <| op_iret .int
theorem bs_X8_readSide_b33 : B_S M_X8_readSide 33 (F_X8_readSide_b33) z_O k_O := by
  unfold F_X8_readSide_b33
  refine BS_aload_n dX8_readSide_33 rfl ?_
  refine BS_call (run_V dX8_readSide_34 con_X8_goesOn (ci := 15) rfl rfl q1881 q1883 qs59 q146 q1884 pd_X8_goesOn ⟨Nat.le_of_ble_eq_true rfl, Nat.le_of_ble_eq_true rfl⟩) BV_no ?_
  refine BS_iload_n dX8_readSide_37 rfl ?_
  exact BS_ireturn dX8_readSide_38 rfl
noncomputable def F_X8_readSide_b14 : KK OO :=
  op_ist 1 <| op_ild 1 <| op_ine (F_X8_readSide_b33) (op_ald 0 <| op_ldcs 12 <| op_call 2 (f_kd 25 F_X8_isWord) kx_no <| op_ine (F_X8_readSide_b33) (op_ald 0 <| op_push (.int 1) <| op_call 2 (f_kd 25 F_X8_flaw) kx_no <| F_X8_readSide_b33))
theorem bs_X8_readSide_b14 : B_S M_X8_readSide 14 (F_X8_readSide_b14) z_O k_O := by
  unfold F_X8_readSide_b14
  refine BS_istore_n dX8_readSide_14 rfl (Nat.le_of_ble_eq_true rfl) ?_
  refine BS_iload_n dX8_readSide_15 rfl ?_
  refine BS_if_ne (tgt := 33) dX8_readSide_16 (by decide) ?_ ?_
  · exact bs_X8_readSide_b33
  · refine BS_aload_n dX8_readSide_19 rfl ?_
    refine BS_ldcs dX8_readSide_20 st_X8_167 ?_
    refine BS_call (run_V dX8_readSide_22 con_X8_isWord (ci := 15) rfl rfl q1905 q1907 qs63 q146 q1908 pd_X8_isWord ⟨Nat.le_of_ble_eq_true rfl, Nat.le_of_ble_eq_true rfl⟩) BV_no ?_
    refine BS_if_ne (tgt := 33) dX8_readSide_25 (by decide) ?_ ?_
    · exact bs_X8_readSide_b33
    · refine BS_aload_n dX8_readSide_28 rfl ?_
      refine BS_iconst dX8_readSide_29 (by decide) ?_
      refine BS_call (run_V dX8_readSide_30 con_X8_flaw (ci := 15) rfl rfl q1944 q1946 qs65 q146 q1947 pd_X8_flaw ⟨Nat.le_of_ble_eq_true rfl, Nat.le_of_ble_eq_true rfl⟩) BV_no ?_
      exact bs_X8_readSide_b33
noncomputable def F_X8_readSide_b0 : KK OO :=
  op_ald 0 <| op_ldcs 13 <| op_call 2 (f_kd 25 F_X8_isWord) kx_no <| op_ieq (op_push (.int 0) <| F_X8_readSide_b14) (op_push (.int 1) <| F_X8_readSide_b14)
theorem bs_X8_readSide_b0 : B_S M_X8_readSide 0 (F_X8_readSide_b0) z_O k_O := by
  unfold F_X8_readSide_b0
  refine BS_aload_n dX8_readSide_0 rfl ?_
  refine BS_ldcs dX8_readSide_1 st_X8_169 ?_
  refine BS_call (run_V dX8_readSide_3 con_X8_isWord (ci := 15) rfl rfl q1905 q1907 qs63 q146 q1908 pd_X8_isWord ⟨Nat.le_of_ble_eq_true rfl, Nat.le_of_ble_eq_true rfl⟩) BV_no ?_
  refine BS_if_eq (tgt := 13) dX8_readSide_6 (by decide) ?_ ?_
  · refine BS_iconst dX8_readSide_13 (by decide) ?_
    exact bs_X8_readSide_b14
  · refine BS_iconst dX8_readSide_9 (by decide) ?_
    refine BS_goto (tgt := 14) dX8_readSide_10 (by decide) ?_
    exact bs_X8_readSide_b14
noncomputable def F_X8_readSide : FF := mk_F 2 F_X8_readSide_b0
theorem con_X8_readSide : Con_ yX8_readSide (ws_ yX8_readSide cX8_readSide 2 (some .int)) 6 129 F_X8_readSide := Con_of (by decide +kernel) bs_X8_readSide_b0
/-- LongerHalfModel.readPiece()V -/
abbrev M_X8_readPiece : MM := (yX8_readPiece, cX8_readPiece, none, 7, 150, 3, [])
theorem pd_X8_readPiece : (yX8_readPiece.cls ≠ "java/lang/invoke/MethodHandle" ∧ yX8_readPiece.cls ≠ "java/lang/invoke/VarHandle") ∧ (parseMethodDescriptor yX8_readPiece.desc).map (fun d => d.parameters.length) = some 0 := ⟨⟨by decide +kernel, by decide +kernel⟩, by decide +kernel⟩
noncomputable def F_X8_readPiece_b0 : KK OO :=
  op_ald 0 <| op_ald 0 <| op_gfr [25] 102 <| op_gfi [26] 146 <| op_push (.int 4) <| op_call 3 (f_kd 25 F_X8_begins) kx_no <| op_ald 0 <| op_call 1 (f_kd 25 F_X8_readSide) kx_no <| op_ist 1 <| op_ald 0 <| op_push (.int 0) <| op_push (.int 5) <| op_call 3 (f_kd 25 F_X8_readWhole) kx_no <| op_ist 2 <| op_ald 0 <| op_gfi [25] 107 <| op_push (.int 5) <| op_cne (op_ald 0 <| op_gfr [25] 102 <| op_gfr [26] 162 <| op_ald 0 <| op_gfr [25] 102 <| op_gfi [26] 146 <| op_ild 1 <| op_iast 1 .int <| op_ald 0 <| op_gfr [25] 102 <| op_gfr [26] 163 <| op_ald 0 <| op_gfr [25] 102 <| op_gfi [26] 146 <| op_ild 2 <| op_iast 1 .int <| op_ald 0 <| op_gfr [25] 102 <| op_dup <| op_gfi [26] 146 <| op_push (.int 1) <| op_i2 (fun x y => x + y) <| op_pfi .int [26] 146 <| op_vret) (op_vret)
theorem bs_X8_readPiece_b0 : B_S M_X8_readPiece 0 (F_X8_readPiece_b0) z_O k_O := by
  unfold F_X8_readPiece_b0
  refine BS_aload_n dX8_readPiece_0 rfl ?_
  refine BS_aload_n dX8_readPiece_1 rfl ?_
  refine BS_gfr f_X8_171 dX8_readPiece_2 ?_
  refine BS_gfi f_X8_349 dX8_readPiece_5 ?_
  refine BS_iconst dX8_readPiece_8 (by decide) ?_
  refine BS_call (run_V dX8_readPiece_9 con_X8_begins (ci := 15) rfl rfl q1977 q1979 qs71 q146 q1980 pd_X8_begins ⟨Nat.le_of_ble_eq_true rfl, Nat.le_of_ble_eq_true rfl⟩) BV_no ?_
  refine BS_aload_n dX8_readPiece_12 rfl ?_
  refine BS_call (run_V dX8_readPiece_13 con_X8_readSide (ci := 15) rfl rfl q2050 q2052 qs83 q146 q2053 pd_X8_readSide ⟨Nat.le_of_ble_eq_true rfl, Nat.le_of_ble_eq_true rfl⟩) BV_no ?_
  refine BS_istore_n dX8_readPiece_16 rfl (Nat.le_of_ble_eq_true rfl) ?_
  refine BS_aload_n dX8_readPiece_17 rfl ?_
  refine BS_iconst dX8_readPiece_18 (by decide) ?_
  refine BS_iconst dX8_readPiece_19 (by decide) ?_
  refine BS_call (run_V dX8_readPiece_20 con_X8_readWhole (ci := 15) rfl rfl q1957 q1959 qs68 q146 q1960 pd_X8_readWhole ⟨Nat.le_of_ble_eq_true rfl, Nat.le_of_ble_eq_true rfl⟩) BV_no ?_
  refine BS_istore_n dX8_readPiece_23 rfl (Nat.le_of_ble_eq_true rfl) ?_
  refine BS_aload_n dX8_readPiece_24 rfl ?_
  refine BS_gfi f_X8_85 dX8_readPiece_25 ?_
  refine BS_iconst dX8_readPiece_28 (by decide) ?_
  refine BS_icmp_ne (tgt := 33) dX8_readPiece_29 (by decide) ?_ ?_
  · refine BS_aload_n dX8_readPiece_33 rfl ?_
    refine BS_gfr f_X8_171 dX8_readPiece_34 ?_
    refine BS_gfr f_X8_352 dX8_readPiece_37 ?_
    refine BS_aload_n dX8_readPiece_40 rfl ?_
    refine BS_gfr f_X8_171 dX8_readPiece_41 ?_
    refine BS_gfi f_X8_349 dX8_readPiece_44 ?_
    refine BS_iload_n dX8_readPiece_47 rfl ?_
    refine BS_iastore dX8_readPiece_48 ?_
    refine BS_aload_n dX8_readPiece_49 rfl ?_
    refine BS_gfr f_X8_171 dX8_readPiece_50 ?_
    refine BS_gfr f_X8_355 dX8_readPiece_53 ?_
    refine BS_aload_n dX8_readPiece_56 rfl ?_
    refine BS_gfr f_X8_171 dX8_readPiece_57 ?_
    refine BS_gfi f_X8_349 dX8_readPiece_60 ?_
    refine BS_iload_n dX8_readPiece_63 rfl ?_
    refine BS_iastore dX8_readPiece_64 ?_
    refine BS_aload_n dX8_readPiece_65 rfl ?_
    refine BS_gfr f_X8_171 dX8_readPiece_66 ?_
    refine BS_dup dX8_readPiece_69 ?_
    refine BS_gfi f_X8_349 dX8_readPiece_70 ?_
    refine BS_iconst dX8_readPiece_73 (by decide) ?_
    refine BS_iadd dX8_readPiece_74 ?_
    refine BS_pfi p_X8_349 (fun h => by cases h) dX8_readPiece_75 ?_
    exact BS_return dX8_readPiece_78 rfl
  · exact BS_return dX8_readPiece_32 rfl
noncomputable def F_X8_readPiece : FF := mk_F 3 F_X8_readPiece_b0
theorem con_X8_readPiece : Con_ yX8_readPiece (ws_ yX8_readPiece cX8_readPiece 3 none) 7 150 F_X8_readPiece := Con_of (by decide +kernel) bs_X8_readPiece_b0
/-- LongerHalfModel.readWon()V -/
abbrev M_X8_readWon : MM := (yX8_readWon, cX8_readWon, none, 9, 191, 4, [])
theorem pd_X8_readWon : (yX8_readWon.cls ≠ "java/lang/invoke/MethodHandle" ∧ yX8_readWon.cls ≠ "java/lang/invoke/VarHandle") ∧ (parseMethodDescriptor yX8_readWon.desc).map (fun d => d.parameters.length) = some 0 := ⟨⟨by decide +kernel, by decide +kernel⟩, by decide +kernel⟩
noncomputable def F_X8_readWon_b41 : KK OO :=
  op_ald 0 <| op_call 1 (f_kd 25 F_X8_goesOn) kx_no <| op_ald 0 <| op_call 1 (f_kd 25 F_X8_readSide) kx_no <| op_ist 3 <| op_ald 0 <| op_gfi [25] 107 <| op_push (.int 5) <| op_cne (op_ald 0 <| op_gfr [25] 102 <| op_gfr [26] 159 <| op_ald 0 <| op_gfr [25] 102 <| op_gfi [26] 145 <| op_ild 1 <| op_iast 1 .int <| op_ald 0 <| op_gfr [25] 102 <| op_gfr [26] 160 <| op_ald 0 <| op_gfr [25] 102 <| op_gfi [26] 145 <| op_ild 2 <| op_iast 1 .int <| op_ald 0 <| op_gfr [25] 102 <| op_gfr [26] 161 <| op_ald 0 <| op_gfr [25] 102 <| op_gfi [26] 145 <| op_ild 3 <| op_iast 1 .int <| op_ald 0 <| op_gfr [25] 102 <| op_dup <| op_gfi [26] 145 <| op_push (.int 1) <| op_i2 (fun x y => x + y) <| op_pfi .int [26] 145 <| op_vret) (op_vret)
theorem bs_X8_readWon_b41 : B_S M_X8_readWon 41 (F_X8_readWon_b41) z_O k_O := by
  unfold F_X8_readWon_b41
  refine BS_aload_n dX8_readWon_41 rfl ?_
  refine BS_call (run_V dX8_readWon_42 con_X8_goesOn (ci := 15) rfl rfl q1881 q1883 qs59 q146 q1884 pd_X8_goesOn ⟨Nat.le_of_ble_eq_true rfl, Nat.le_of_ble_eq_true rfl⟩) BV_no ?_
  refine BS_aload_n dX8_readWon_45 rfl ?_
  refine BS_call (run_V dX8_readWon_46 con_X8_readSide (ci := 15) rfl rfl q2050 q2052 qs83 q146 q2053 pd_X8_readSide ⟨Nat.le_of_ble_eq_true rfl, Nat.le_of_ble_eq_true rfl⟩) BV_no ?_
  refine BS_istore_n dX8_readWon_49 rfl (Nat.le_of_ble_eq_true rfl) ?_
  refine BS_aload_n dX8_readWon_50 rfl ?_
  refine BS_gfi f_X8_85 dX8_readWon_51 ?_
  refine BS_iconst dX8_readWon_54 (by decide) ?_
  refine BS_icmp_ne (tgt := 59) dX8_readWon_55 (by decide) ?_ ?_
  · refine BS_aload_n dX8_readWon_59 rfl ?_
    refine BS_gfr f_X8_171 dX8_readWon_60 ?_
    refine BS_gfr f_X8_340 dX8_readWon_63 ?_
    refine BS_aload_n dX8_readWon_66 rfl ?_
    refine BS_gfr f_X8_171 dX8_readWon_67 ?_
    refine BS_gfi f_X8_334 dX8_readWon_70 ?_
    refine BS_iload_n dX8_readWon_73 rfl ?_
    refine BS_iastore dX8_readWon_74 ?_
    refine BS_aload_n dX8_readWon_75 rfl ?_
    refine BS_gfr f_X8_171 dX8_readWon_76 ?_
    refine BS_gfr f_X8_343 dX8_readWon_79 ?_
    refine BS_aload_n dX8_readWon_82 rfl ?_
    refine BS_gfr f_X8_171 dX8_readWon_83 ?_
    refine BS_gfi f_X8_334 dX8_readWon_86 ?_
    refine BS_iload_n dX8_readWon_89 rfl ?_
    refine BS_iastore dX8_readWon_90 ?_
    refine BS_aload_n dX8_readWon_91 rfl ?_
    refine BS_gfr f_X8_171 dX8_readWon_92 ?_
    refine BS_gfr f_X8_346 dX8_readWon_95 ?_
    refine BS_aload_n dX8_readWon_98 rfl ?_
    refine BS_gfr f_X8_171 dX8_readWon_99 ?_
    refine BS_gfi f_X8_334 dX8_readWon_102 ?_
    refine BS_iload_n dX8_readWon_105 rfl ?_
    refine BS_iastore dX8_readWon_106 ?_
    refine BS_aload_n dX8_readWon_107 rfl ?_
    refine BS_gfr f_X8_171 dX8_readWon_108 ?_
    refine BS_dup dX8_readWon_111 ?_
    refine BS_gfi f_X8_334 dX8_readWon_112 ?_
    refine BS_iconst dX8_readWon_115 (by decide) ?_
    refine BS_iadd dX8_readWon_116 ?_
    refine BS_pfi p_X8_334 (fun h => by cases h) dX8_readWon_117 ?_
    exact BS_return dX8_readWon_120 rfl
  · exact BS_return dX8_readWon_58 rfl
noncomputable def F_X8_readWon_b0 : KK OO :=
  op_ald 0 <| op_ald 0 <| op_gfr [25] 102 <| op_gfi [26] 145 <| op_push (.int 12) <| op_call 3 (f_kd 25 F_X8_begins) kx_no <| op_ald 0 <| op_call 1 (f_kd 25 F_X8_readPerson) kx_no <| op_ist 1 <| op_ald 0 <| op_call 1 (f_kd 25 F_X8_knownOne) kx_no <| op_ist 2 <| op_ald 0 <| op_gfi [25] 107 <| op_push (.int 5) <| op_ceq (F_X8_readWon_b41) (op_ild 1 <| op_ild 2 <| op_cne (F_X8_readWon_b41) (op_ald 0 <| op_push (.int 3) <| op_call 2 (f_kd 25 F_X8_flaw) kx_no <| F_X8_readWon_b41))
theorem bs_X8_readWon_b0 : B_S M_X8_readWon 0 (F_X8_readWon_b0) z_O k_O := by
  unfold F_X8_readWon_b0
  refine BS_aload_n dX8_readWon_0 rfl ?_
  refine BS_aload_n dX8_readWon_1 rfl ?_
  refine BS_gfr f_X8_171 dX8_readWon_2 ?_
  refine BS_gfi f_X8_334 dX8_readWon_5 ?_
  refine BS_bipush dX8_readWon_8 (by decide) ?_
  refine BS_call (run_V dX8_readWon_10 con_X8_begins (ci := 15) rfl rfl q1977 q1979 qs71 q146 q1980 pd_X8_begins ⟨Nat.le_of_ble_eq_true rfl, Nat.le_of_ble_eq_true rfl⟩) BV_no ?_
  refine BS_aload_n dX8_readWon_13 rfl ?_
  refine BS_call (run_V dX8_readWon_14 con_X8_readPerson (ci := 15) rfl rfl q2035 q2037 qs80 q146 q2038 pd_X8_readPerson ⟨Nat.le_of_ble_eq_true rfl, Nat.le_of_ble_eq_true rfl⟩) BV_no ?_
  refine BS_istore_n dX8_readWon_17 rfl (Nat.le_of_ble_eq_true rfl) ?_
  refine BS_aload_n dX8_readWon_18 rfl ?_
  refine BS_call (run_V dX8_readWon_19 con_X8_knownOne (ci := 15) rfl rfl q2039 q2041 qs81 q146 q2042 pd_X8_knownOne ⟨Nat.le_of_ble_eq_true rfl, Nat.le_of_ble_eq_true rfl⟩) BV_no ?_
  refine BS_istore_n dX8_readWon_22 rfl (Nat.le_of_ble_eq_true rfl) ?_
  refine BS_aload_n dX8_readWon_23 rfl ?_
  refine BS_gfi f_X8_85 dX8_readWon_24 ?_
  refine BS_iconst dX8_readWon_27 (by decide) ?_
  refine BS_icmp_eq (tgt := 41) dX8_readWon_28 (by decide) ?_ ?_
  · exact bs_X8_readWon_b41
  · refine BS_iload_n dX8_readWon_31 rfl ?_
    refine BS_iload_n dX8_readWon_32 rfl ?_
    refine BS_icmp_ne (tgt := 41) dX8_readWon_33 (by decide) ?_ ?_
    · exact bs_X8_readWon_b41
    · refine BS_aload_n dX8_readWon_36 rfl ?_
      refine BS_iconst dX8_readWon_37 (by decide) ?_
      refine BS_call (run_V dX8_readWon_38 con_X8_flaw (ci := 15) rfl rfl q1944 q1946 qs65 q146 q1947 pd_X8_flaw ⟨Nat.le_of_ble_eq_true rfl, Nat.le_of_ble_eq_true rfl⟩) BV_no ?_
      exact bs_X8_readWon_b41
noncomputable def F_X8_readWon : FF := mk_F 4 F_X8_readWon_b0
theorem con_X8_readWon : Con_ yX8_readWon (ws_ yX8_readWon cX8_readWon 4 none) 9 191 F_X8_readWon := Con_of (by decide +kernel) bs_X8_readWon_b0
/-- LongerHalfModel.readLine()V -/
abbrev M_X8_readLine : MM := (yX8_readLine, cX8_readLine, none, 10, 214, 1, [])
theorem pd_X8_readLine : (yX8_readLine.cls ≠ "java/lang/invoke/MethodHandle" ∧ yX8_readLine.cls ≠ "java/lang/invoke/VarHandle") ∧ (parseMethodDescriptor yX8_readLine.desc).map (fun d => d.parameters.length) = some 0 := ⟨⟨by decide +kernel, by decide +kernel⟩, by decide +kernel⟩
noncomputable def F_X8_readLine_b58 : KK OO :=
  op_call 1 (f_kd 25 F_X8_readFor) kx_no <| op_vret
theorem bs_X8_readLine_b58 : B_S M_X8_readLine 58 (F_X8_readLine_b58) z_O k_O := by
  unfold F_X8_readLine_b58
  refine BS_call (run_V dX8_readLine_58 con_X8_readFor (ci := 15) rfl rfl q2031 q2033 qs79 q146 q2034 pd_X8_readFor ⟨Nat.le_of_ble_eq_true rfl, Nat.le_of_ble_eq_true rfl⟩) BV_no ?_
  refine BS_goto (tgt := 117) dX8_readLine_61 (by decide) ?_
  exact BS_return dX8_readLine_117 rfl
noncomputable def F_X8_readLine_b41 : KK OO :=
  op_ald 0 <| op_call 1 (f_kd 25 F_X8_readPersonLine) kx_no <| op_vret
theorem bs_X8_readLine_b41 : B_S M_X8_readLine 41 (F_X8_readLine_b41) z_O k_O := by
  unfold F_X8_readLine_b41
  refine BS_aload_n dX8_readLine_41 rfl ?_
  refine BS_call (run_V dX8_readLine_42 con_X8_readPersonLine (ci := 15) rfl rfl q2020 q2022 qs78 q146 q2023 pd_X8_readPersonLine ⟨Nat.le_of_ble_eq_true rfl, Nat.le_of_ble_eq_true rfl⟩) BV_no ?_
  refine BS_goto (tgt := 117) dX8_readLine_45 (by decide) ?_
  exact BS_return dX8_readLine_117 rfl
noncomputable def F_X8_readLine_b25 : KK OO :=
  op_ald 0 <| op_call 1 (f_kd 25 F_X8_readBone) kx_no <| op_vret
theorem bs_X8_readLine_b25 : B_S M_X8_readLine 25 (F_X8_readLine_b25) z_O k_O := by
  unfold F_X8_readLine_b25
  refine BS_aload_n dX8_readLine_25 rfl ?_
  refine BS_call (run_V dX8_readLine_26 con_X8_readBone (ci := 15) rfl rfl q1973 q1975 qs70 q146 q1976 pd_X8_readBone ⟨Nat.le_of_ble_eq_true rfl, Nat.le_of_ble_eq_true rfl⟩) BV_no ?_
  refine BS_goto (tgt := 117) dX8_readLine_29 (by decide) ?_
  exact BS_return dX8_readLine_117 rfl
noncomputable def F_X8_readLine_b9 : KK OO :=
  op_ald 0 <| op_call 1 (f_kd 25 F_X8_readKitchen) kx_no <| op_vret
theorem bs_X8_readLine_b9 : B_S M_X8_readLine 9 (F_X8_readLine_b9) z_O k_O := by
  unfold F_X8_readLine_b9
  refine BS_aload_n dX8_readLine_9 rfl ?_
  refine BS_call (run_V dX8_readLine_10 con_X8_readKitchen (ci := 15) rfl rfl q1940 q1942 qs64 q146 q1943 pd_X8_readKitchen ⟨Nat.le_of_ble_eq_true rfl, Nat.le_of_ble_eq_true rfl⟩) BV_no ?_
  refine BS_goto (tgt := 117) dX8_readLine_13 (by decide) ?_
  exact BS_return dX8_readLine_117 rfl
noncomputable def F_X8_readLine_b0 : KK OO :=
  op_ald 0 <| op_ldcs 0 <| op_call 2 (f_kd 25 F_X8_isWord) kx_no <| op_ieq (op_ald 0 <| op_ldcs 6 <| op_call 2 (f_kd 25 F_X8_isWord) kx_no <| op_ieq (op_ald 0 <| op_ldcs 7 <| op_call 2 (f_kd 25 F_X8_isWord) kx_no <| op_ieq (op_ald 0 <| op_ldcs 8 <| op_call 2 (f_kd 25 F_X8_isWord) kx_no <| op_ieq (op_ald 0 <| op_ldcs 9 <| op_call 2 (f_kd 25 F_X8_isWord) kx_no <| op_ieq (op_ald 0 <| op_ldcs 10 <| op_call 2 (f_kd 25 F_X8_isWord) kx_no <| op_ieq (op_ald 0 <| op_ldcs 11 <| op_call 2 (f_kd 25 F_X8_isWord) kx_no <| op_ieq (op_ald 0 <| op_push (.int 1) <| op_call 2 (f_kd 25 F_X8_flaw) kx_no <| op_vret) (op_ald 0 <| op_call 1 (f_kd 25 F_X8_readCheats) kx_no <| op_vret)) (op_ald 0 <| op_call 1 (f_kd 25 F_X8_readPiece) kx_no <| op_vret)) (op_ald 0 <| op_call 1 (f_kd 25 F_X8_readWon) kx_no <| op_vret)) (op_ald 0 <| F_X8_readLine_b58)) (F_X8_readLine_b41)) (F_X8_readLine_b25)) (F_X8_readLine_b9)
theorem bs_X8_readLine_b0 : B_S M_X8_readLine 0 (F_X8_readLine_b0) z_O k_O := by
  unfold F_X8_readLine_b0
  refine BS_aload_n dX8_readLine_0 rfl ?_
  refine BS_ldcs dX8_readLine_1 st_X8_153 ?_
  refine BS_call (run_V dX8_readLine_3 con_X8_isWord (ci := 15) rfl rfl q1905 q1907 qs63 q146 q1908 pd_X8_isWord ⟨Nat.le_of_ble_eq_true rfl, Nat.le_of_ble_eq_true rfl⟩) BV_no ?_
  refine BS_if_eq (tgt := 16) dX8_readLine_6 (by decide) ?_ ?_
  · refine BS_aload_n dX8_readLine_16 rfl ?_
    refine BS_ldcs dX8_readLine_17 st_X8_155 ?_
    refine BS_call (run_V dX8_readLine_19 con_X8_isWord (ci := 15) rfl rfl q1905 q1907 qs63 q146 q1908 pd_X8_isWord ⟨Nat.le_of_ble_eq_true rfl, Nat.le_of_ble_eq_true rfl⟩) BV_no ?_
    refine BS_if_eq (tgt := 32) dX8_readLine_22 (by decide) ?_ ?_
    · refine BS_aload_n dX8_readLine_32 rfl ?_
      refine BS_ldcs dX8_readLine_33 st_X8_157 ?_
      refine BS_call (run_V dX8_readLine_35 con_X8_isWord (ci := 15) rfl rfl q1905 q1907 qs63 q146 q1908 pd_X8_isWord ⟨Nat.le_of_ble_eq_true rfl, Nat.le_of_ble_eq_true rfl⟩) BV_no ?_
      refine BS_if_eq (tgt := 48) dX8_readLine_38 (by decide) ?_ ?_
      · refine BS_aload_n dX8_readLine_48 rfl ?_
        refine BS_ldcs dX8_readLine_49 st_X8_159 ?_
        refine BS_call (run_V dX8_readLine_51 con_X8_isWord (ci := 15) rfl rfl q1905 q1907 qs63 q146 q1908 pd_X8_isWord ⟨Nat.le_of_ble_eq_true rfl, Nat.le_of_ble_eq_true rfl⟩) BV_no ?_
        refine BS_if_eq (tgt := 64) dX8_readLine_54 (by decide) ?_ ?_
        · refine BS_aload_n dX8_readLine_64 rfl ?_
          refine BS_ldcs dX8_readLine_65 st_X8_161 ?_
          refine BS_call (run_V dX8_readLine_67 con_X8_isWord (ci := 15) rfl rfl q1905 q1907 qs63 q146 q1908 pd_X8_isWord ⟨Nat.le_of_ble_eq_true rfl, Nat.le_of_ble_eq_true rfl⟩) BV_no ?_
          refine BS_if_eq (tgt := 80) dX8_readLine_70 (by decide) ?_ ?_
          · refine BS_aload_n dX8_readLine_80 rfl ?_
            refine BS_ldcs dX8_readLine_81 st_X8_163 ?_
            refine BS_call (run_V dX8_readLine_83 con_X8_isWord (ci := 15) rfl rfl q1905 q1907 qs63 q146 q1908 pd_X8_isWord ⟨Nat.le_of_ble_eq_true rfl, Nat.le_of_ble_eq_true rfl⟩) BV_no ?_
            refine BS_if_eq (tgt := 96) dX8_readLine_86 (by decide) ?_ ?_
            · refine BS_aload_n dX8_readLine_96 rfl ?_
              refine BS_ldcs dX8_readLine_97 st_X8_165 ?_
              refine BS_call (run_V dX8_readLine_99 con_X8_isWord (ci := 15) rfl rfl q1905 q1907 qs63 q146 q1908 pd_X8_isWord ⟨Nat.le_of_ble_eq_true rfl, Nat.le_of_ble_eq_true rfl⟩) BV_no ?_
              refine BS_if_eq (tgt := 112) dX8_readLine_102 (by decide) ?_ ?_
              · refine BS_aload_n dX8_readLine_112 rfl ?_
                refine BS_iconst dX8_readLine_113 (by decide) ?_
                refine BS_call (run_V dX8_readLine_114 con_X8_flaw (ci := 15) rfl rfl q1944 q1946 qs65 q146 q1947 pd_X8_flaw ⟨Nat.le_of_ble_eq_true rfl, Nat.le_of_ble_eq_true rfl⟩) BV_no ?_
                exact BS_return dX8_readLine_117 rfl
              · refine BS_aload_n dX8_readLine_105 rfl ?_
                refine BS_call (run_V dX8_readLine_106 con_X8_readCheats (ci := 15) rfl rfl q2058 q2060 qs85 q146 q2061 pd_X8_readCheats ⟨Nat.le_of_ble_eq_true rfl, Nat.le_of_ble_eq_true rfl⟩) BV_no ?_
                refine BS_goto (tgt := 117) dX8_readLine_109 (by decide) ?_
                exact BS_return dX8_readLine_117 rfl
            · refine BS_aload_n dX8_readLine_89 rfl ?_
              refine BS_call (run_V dX8_readLine_90 con_X8_readPiece (ci := 15) rfl rfl q2054 q2056 qs84 q146 q2057 pd_X8_readPiece ⟨Nat.le_of_ble_eq_true rfl, Nat.le_of_ble_eq_true rfl⟩) BV_no ?_
              refine BS_goto (tgt := 117) dX8_readLine_93 (by decide) ?_
              exact BS_return dX8_readLine_117 rfl
          · refine BS_aload_n dX8_readLine_73 rfl ?_
            refine BS_call (run_V dX8_readLine_74 con_X8_readWon (ci := 15) rfl rfl q2046 q2048 qs82 q146 q2049 pd_X8_readWon ⟨Nat.le_of_ble_eq_true rfl, Nat.le_of_ble_eq_true rfl⟩) BV_no ?_
            refine BS_goto (tgt := 117) dX8_readLine_77 (by decide) ?_
            exact BS_return dX8_readLine_117 rfl
        · refine BS_aload_n dX8_readLine_57 rfl ?_
          exact bs_X8_readLine_b58
      · exact bs_X8_readLine_b41
    · exact bs_X8_readLine_b25
  · exact bs_X8_readLine_b9
noncomputable def F_X8_readLine : FF := mk_F 1 F_X8_readLine_b0
theorem con_X8_readLine : Con_ yX8_readLine (ws_ yX8_readLine cX8_readLine 1 none) 10 214 F_X8_readLine := Con_of (by decide +kernel) bs_X8_readLine_b0
/-- LongerHalfModel.readAll()V -/
abbrev M_X8_readAll : MM := (yX8_readAll, cX8_readAll, none, 11, 234, 2, [])
theorem pd_X8_readAll : (yX8_readAll.cls ≠ "java/lang/invoke/MethodHandle" ∧ yX8_readAll.cls ≠ "java/lang/invoke/VarHandle") ∧ (parseMethodDescriptor yX8_readAll.desc).map (fun d => d.parameters.length) = some 0 := ⟨⟨by decide +kernel, by decide +kernel⟩, by decide +kernel⟩
noncomputable def F_X8_readAll_b54 : KK OO :=
  op_ald 0 <| op_push (.int 6) <| op_call 2 (f_kd 25 F_X8_flaw) kx_no <| op_vret
theorem bs_X8_readAll_b54 : B_S M_X8_readAll 54 (F_X8_readAll_b54) z_O k_O := by
  unfold F_X8_readAll_b54
  refine BS_aload_n dX8_readAll_54 rfl ?_
  refine BS_bipush dX8_readAll_55 (by decide) ?_
  refine BS_call (run_V dX8_readAll_57 con_X8_flaw (ci := 15) rfl rfl q1944 q1946 qs65 q146 q1947 pd_X8_flaw ⟨Nat.le_of_ble_eq_true rfl, Nat.le_of_ble_eq_true rfl⟩) BV_no ?_
  exact BS_return dX8_readAll_60 rfl
noncomputable def F_X8_readAll_b33 : KK OO :=
  op_ald 0 <| op_gfr [25] 102 <| op_gfi [26] 142 <| op_ieq (F_X8_readAll_b54) (op_ald 0 <| op_gfr [25] 102 <| op_gfi [26] 143 <| op_push (.int 2) <| op_cge (op_vret) (F_X8_readAll_b54))
theorem bs_X8_readAll_b33 : B_S M_X8_readAll 33 (F_X8_readAll_b33) z_O k_O := by
  unfold F_X8_readAll_b33
  refine BS_aload_n dX8_readAll_33 rfl ?_
  refine BS_gfr f_X8_171 dX8_readAll_34 ?_
  refine BS_gfi f_X8_210 dX8_readAll_37 ?_
  refine BS_if_eq (tgt := 54) dX8_readAll_40 (by decide) ?_ ?_
  · exact bs_X8_readAll_b54
  · refine BS_aload_n dX8_readAll_43 rfl ?_
    refine BS_gfr f_X8_171 dX8_readAll_44 ?_
    refine BS_gfi f_X8_213 dX8_readAll_47 ?_
    refine BS_iconst dX8_readAll_50 (by decide) ?_
    refine BS_icmp_ge (tgt := 60) dX8_readAll_51 (by decide) ?_ ?_
    · exact BS_return dX8_readAll_60 rfl
    · exact bs_X8_readAll_b54
noncomputable def F_X8_readAll_l2 : KK (L_S ⊕ OO) :=
  op_ild 1 <| op_ieq (op_exit <| op_ald 0 <| op_gfi [25] 107 <| op_push (.int 1) <| op_ceq (F_X8_readAll_b33) (op_ald 0 <| op_push (.int 1) <| op_call 2 (f_kd 25 F_X8_flaw) kx_no <| F_X8_readAll_b33)) (op_ald 0 <| op_call 1 (f_kd 25 F_X8_readLine) kx_no <| op_ald 0 <| op_push (.int 59) <| op_call 2 (f_kd 25 F_X8_eatsSign) kx_no <| op_ist 1 <| op_back)
theorem bs_X8_readAll_l2 : B_S M_X8_readAll 2 (F_X8_readAll_l2) (z_L z_O) (k_L 2 k_O) := by
  unfold F_X8_readAll_l2
  refine BS_iload_n dX8_readAll_2 rfl ?_
  refine BS_if_eq (tgt := 20) dX8_readAll_3 (by decide) ?_ ?_
  · refine BS_exit ?_
    refine BS_aload_n dX8_readAll_20 rfl ?_
    refine BS_gfi f_X8_85 dX8_readAll_21 ?_
    refine BS_iconst dX8_readAll_24 (by decide) ?_
    refine BS_icmp_eq (tgt := 33) dX8_readAll_25 (by decide) ?_ ?_
    · exact bs_X8_readAll_b33
    · refine BS_aload_n dX8_readAll_28 rfl ?_
      refine BS_iconst dX8_readAll_29 (by decide) ?_
      refine BS_call (run_V dX8_readAll_30 con_X8_flaw (ci := 15) rfl rfl q1944 q1946 qs65 q146 q1947 pd_X8_flaw ⟨Nat.le_of_ble_eq_true rfl, Nat.le_of_ble_eq_true rfl⟩) BV_no ?_
      exact bs_X8_readAll_b33
  · refine BS_aload_n dX8_readAll_6 rfl ?_
    refine BS_call (run_V dX8_readAll_7 con_X8_readLine (ci := 15) rfl rfl q1900 q1902 qs62 q146 q1903 pd_X8_readLine ⟨Nat.le_of_ble_eq_true rfl, Nat.le_of_ble_eq_true rfl⟩) BV_no ?_
    refine BS_aload_n dX8_readAll_10 rfl ?_
    refine BS_bipush dX8_readAll_11 (by decide) ?_
    refine BS_call (run_V dX8_readAll_13 con_X8_eatsSign (ci := 15) rfl rfl q2008 q2010 qs75 q146 q2011 pd_X8_eatsSign ⟨Nat.le_of_ble_eq_true rfl, Nat.le_of_ble_eq_true rfl⟩) BV_no ?_
    refine BS_istore_n dX8_readAll_16 rfl (Nat.le_of_ble_eq_true rfl) ?_
    refine BS_goto (tgt := 2) dX8_readAll_17 (by decide) ?_
    exact BS_back
noncomputable def F_X8_readAll_b2 : KK OO := op_loop (F_X8_readAll_l2)
theorem bs_X8_readAll_b2 : B_S M_X8_readAll 2 (F_X8_readAll_b2) z_O k_O := BS_loop (bs_X8_readAll_l2)
noncomputable def F_X8_readAll_b0 : KK OO :=
  op_push (.int 1) <| op_ist 1 <| F_X8_readAll_b2
theorem bs_X8_readAll_b0 : B_S M_X8_readAll 0 (F_X8_readAll_b0) z_O k_O := by
  unfold F_X8_readAll_b0
  refine BS_iconst dX8_readAll_0 (by decide) ?_
  refine BS_istore_n dX8_readAll_1 rfl (Nat.le_of_ble_eq_true rfl) ?_
  exact bs_X8_readAll_b2
noncomputable def F_X8_readAll : FF := mk_F 2 F_X8_readAll_b0
theorem con_X8_readAll : Con_ yX8_readAll (ws_ yX8_readAll cX8_readAll 2 none) 11 234 F_X8_readAll := Con_of (by decide +kernel) bs_X8_readAll_b0
/-- LongerHalfModel.refused(I)I -/
abbrev M_X8_refused : MM := (yX8_refused, cX8_refused, (some .int), 0, 0, 2, [])
theorem pd_X8_refused : (yX8_refused.cls ≠ "java/lang/invoke/MethodHandle" ∧ yX8_refused.cls ≠ "java/lang/invoke/VarHandle") ∧ (parseMethodDescriptor yX8_refused.desc).map (fun d => d.parameters.length) = some 1 := ⟨⟨by decide +kernel, by decide +kernel⟩, by decide +kernel⟩
noncomputable def F_X8_refused_b0 : KK OO :=
  op_ald 0 <| op_ild 1 <| op_pfi .int [25] 99 <| op_ald 0 <| op_push (.int (-1)) <| op_pfi .int [25] 100 <| op_push (.int (-1)) <| op_iret .int
theorem bs_X8_refused_b0 : B_S M_X8_refused 0 (F_X8_refused_b0) z_O k_O := by
  unfold F_X8_refused_b0
  refine BS_aload_n dX8_refused_0 rfl ?_
  refine BS_iload_n dX8_refused_1 rfl ?_
  refine BS_pfi p_X8_56 (fun h => by cases h) dX8_refused_2 ?_
  refine BS_aload_n dX8_refused_5 rfl ?_
  refine BS_iconst dX8_refused_6 (by decide) ?_
  refine BS_pfi p_X8_9 (fun h => by cases h) dX8_refused_7 ?_
  refine BS_iconst dX8_refused_10 (by decide) ?_
  exact BS_ireturn dX8_refused_11 rfl
noncomputable def F_X8_refused : FF := mk_F 2 F_X8_refused_b0
theorem con_X8_refused : Con_ yX8_refused (ws_ yX8_refused cX8_refused 2 (some .int)) 0 0 F_X8_refused := Con_of (by decide +kernel) bs_X8_refused_b0
/-- LongerHalfModel.kitchen(I)I -/
abbrev M_X8_kitchen : MM := (yX8_kitchen, cX8_kitchen, (some .int), 12, 255, 3, [])
theorem pd_X8_kitchen : (yX8_kitchen.cls ≠ "java/lang/invoke/MethodHandle" ∧ yX8_kitchen.cls ≠ "java/lang/invoke/VarHandle") ∧ (parseMethodDescriptor yX8_kitchen.desc).map (fun d => d.parameters.length) = some 1 := ⟨⟨by decide +kernel, by decide +kernel⟩, by decide +kernel⟩
noncomputable def F_X8_kitchen_b17 : KK OO :=
  op_ald 0 <| op_push (.int 2) <| op_call 2 (f_kd 25 F_X8_refused) kx_no <| op_iret .int
theorem bs_X8_kitchen_b17 : B_S M_X8_kitchen 17 (F_X8_kitchen_b17) z_O k_O := by
  unfold F_X8_kitchen_b17
  refine BS_aload_n dX8_kitchen_17 rfl ?_
  refine BS_iconst dX8_kitchen_18 (by decide) ?_
  refine BS_call (run_V dX8_kitchen_19 con_X8_refused (ci := 15) rfl rfl q1749 q1751 qs58 q146 q1752 pd_X8_refused ⟨Nat.le_of_ble_eq_true rfl, Nat.le_of_ble_eq_true rfl⟩) BV_no ?_
  exact BS_ireturn dX8_kitchen_22 rfl
noncomputable def F_X8_kitchen_l120 : KK (L_S ⊕ OO) :=
  op_ild 2 <| op_push (.int 5) <| op_cge (op_exit <| op_ald 0 <| op_push (.int 0) <| op_pfi .int [25] 117 <| op_ald 0 <| op_push (.int 0) <| op_pfi .int [25] 118 <| op_ald 0 <| op_ald 0 <| op_gfr [25] 101 <| op_gfi [26] 142 <| op_call 2 (f_kd 25 F_X8_good) kx_no <| op_iret .int) (op_ald 0 <| op_gfr [25] 114 <| op_push (.int 0) <| op_ild 2 <| op_i2 (fun x y => x + y) <| op_ald 0 <| op_gfr [25] 101 <| op_gfr [26] 149 <| op_ild 2 <| op_iald 1 <| op_iast 1 .int <| op_ald 0 <| op_gfr [25] 114 <| op_push (.int 5) <| op_ild 2 <| op_i2 (fun x y => x + y) <| op_ald 0 <| op_gfr [25] 101 <| op_gfr [26] 150 <| op_ild 2 <| op_iald 1 <| op_iast 1 .int <| op_iinc 2 1 <| op_back)
theorem bs_X8_kitchen_l120 : B_S M_X8_kitchen 120 (F_X8_kitchen_l120) (z_L z_O) (k_L 120 k_O) := by
  unfold F_X8_kitchen_l120
  refine BS_iload_n dX8_kitchen_120 rfl ?_
  refine BS_iconst dX8_kitchen_121 (by decide) ?_
  refine BS_icmp_ge (tgt := 165) dX8_kitchen_122 (by decide) ?_ ?_
  · refine BS_exit ?_
    refine BS_aload_n dX8_kitchen_165 rfl ?_
    refine BS_iconst dX8_kitchen_166 (by decide) ?_
    refine BS_pfi p_X8_375 (fun h => by cases h) dX8_kitchen_167 ?_
    refine BS_aload_n dX8_kitchen_170 rfl ?_
    refine BS_iconst dX8_kitchen_171 (by decide) ?_
    refine BS_pfi p_X8_378 (fun h => by cases h) dX8_kitchen_172 ?_
    refine BS_aload_n dX8_kitchen_175 rfl ?_
    refine BS_aload_n dX8_kitchen_176 rfl ?_
    refine BS_gfr f_X8_373 dX8_kitchen_177 ?_
    refine BS_gfi f_X8_210 dX8_kitchen_180 ?_
    refine BS_call (run_V dX8_kitchen_183 con_X8_good (ci := 15) rfl rfl q2063 q2065 qs86 q146 q2066 pd_X8_good ⟨Nat.le_of_ble_eq_true rfl, Nat.le_of_ble_eq_true rfl⟩) BV_no ?_
    exact BS_ireturn dX8_kitchen_186 rfl
  · refine BS_aload_n dX8_kitchen_125 rfl ?_
    refine BS_gfr f_X8_17 dX8_kitchen_126 ?_
    refine BS_iconst dX8_kitchen_129 (by decide) ?_
    refine BS_iload_n dX8_kitchen_130 rfl ?_
    refine BS_iadd dX8_kitchen_131 ?_
    refine BS_aload_n dX8_kitchen_132 rfl ?_
    refine BS_gfr f_X8_373 dX8_kitchen_133 ?_
    refine BS_gfr f_X8_288 dX8_kitchen_136 ?_
    refine BS_iload_n dX8_kitchen_139 rfl ?_
    refine BS_iaload dX8_kitchen_140 ?_
    refine BS_iastore dX8_kitchen_141 ?_
    refine BS_aload_n dX8_kitchen_142 rfl ?_
    refine BS_gfr f_X8_17 dX8_kitchen_143 ?_
    refine BS_iconst dX8_kitchen_146 (by decide) ?_
    refine BS_iload_n dX8_kitchen_147 rfl ?_
    refine BS_iadd dX8_kitchen_148 ?_
    refine BS_aload_n dX8_kitchen_149 rfl ?_
    refine BS_gfr f_X8_373 dX8_kitchen_150 ?_
    refine BS_gfr f_X8_291 dX8_kitchen_153 ?_
    refine BS_iload_n dX8_kitchen_156 rfl ?_
    refine BS_iaload dX8_kitchen_157 ?_
    refine BS_iastore dX8_kitchen_158 ?_
    refine BS_iinc dX8_kitchen_159 (by decide) (Nat.le_of_ble_eq_true rfl) ?_
    refine BS_goto (tgt := 120) dX8_kitchen_162 (by decide) ?_
    exact BS_back
noncomputable def F_X8_kitchen_b120 : KK OO := op_loop (F_X8_kitchen_l120)
theorem bs_X8_kitchen_b120 : B_S M_X8_kitchen 120 (F_X8_kitchen_b120) z_O k_O := BS_loop (bs_X8_kitchen_l120)
noncomputable def F_X8_kitchen_l99 : KK (L_S ⊕ OO) :=
  op_ild 2 <| op_push (.int 18) <| op_cge (op_exit <| op_push (.int 0) <| op_ist 2 <| F_X8_kitchen_b120) (op_ald 0 <| op_gfr [25] 114 <| op_ild 2 <| op_push (.int 0) <| op_iast 1 .int <| op_iinc 2 1 <| op_back)
theorem bs_X8_kitchen_l99 : B_S M_X8_kitchen 99 (F_X8_kitchen_l99) (z_L z_O) (k_L 99 k_O) := by
  unfold F_X8_kitchen_l99
  refine BS_iload_n dX8_kitchen_99 rfl ?_
  refine BS_bipush dX8_kitchen_100 (by decide) ?_
  refine BS_icmp_ge (tgt := 118) dX8_kitchen_102 (by decide) ?_ ?_
  · refine BS_exit ?_
    refine BS_iconst dX8_kitchen_118 (by decide) ?_
    refine BS_istore_n dX8_kitchen_119 rfl (Nat.le_of_ble_eq_true rfl) ?_
    exact bs_X8_kitchen_b120
  · refine BS_aload_n dX8_kitchen_105 rfl ?_
    refine BS_gfr f_X8_17 dX8_kitchen_106 ?_
    refine BS_iload_n dX8_kitchen_109 rfl ?_
    refine BS_iconst dX8_kitchen_110 (by decide) ?_
    refine BS_iastore dX8_kitchen_111 ?_
    refine BS_iinc dX8_kitchen_112 (by decide) (Nat.le_of_ble_eq_true rfl) ?_
    refine BS_goto (tgt := 99) dX8_kitchen_115 (by decide) ?_
    exact BS_back
noncomputable def F_X8_kitchen_b99 : KK OO := op_loop (F_X8_kitchen_l99)
theorem bs_X8_kitchen_b99 : B_S M_X8_kitchen 99 (F_X8_kitchen_b99) z_O k_O := BS_loop (bs_X8_kitchen_l99)
noncomputable def F_X8_kitchen_b79 : KK OO :=
  op_ald 0 <| op_ald 0 <| op_gfi [25] 112 <| op_pfi .int [25] 100 <| op_push (.int (-1)) <| op_iret .int
theorem bs_X8_kitchen_b79 : B_S M_X8_kitchen 79 (F_X8_kitchen_b79) z_O k_O := by
  unfold F_X8_kitchen_b79
  refine BS_aload_n dX8_kitchen_79 rfl ?_
  refine BS_aload_n dX8_kitchen_80 rfl ?_
  refine BS_gfi f_X8_117 dX8_kitchen_81 ?_
  refine BS_pfi p_X8_9 (fun h => by cases h) dX8_kitchen_84 ?_
  refine BS_iconst dX8_kitchen_87 (by decide) ?_
  exact BS_ireturn dX8_kitchen_88 rfl
noncomputable def F_X8_kitchen_b0 : KK OO :=
  op_ald 0 <| op_push (.int 0) <| op_pfi .int [25] 98 <| op_ild 1 <| op_ilt (F_X8_kitchen_b17) (op_ild 1 <| op_ald 0 <| op_gfi [25] 104 <| op_cle (op_ald 0 <| op_ild 1 <| op_pfi .int [25] 105 <| op_ald 0 <| op_push (.int 0) <| op_pfi .int [25] 104 <| op_ald 0 <| op_push (.int 0) <| op_pfi .int [25] 106 <| op_ald 0 <| op_push (.int 0) <| op_pfi .int [25] 111 <| op_ald 0 <| op_new 16 33 <| op_dup <| op_call 1 (f_rcv F_X20_init) kx_no <| op_pfr [25] 102 <| op_ald 0 <| op_push (.int 0) <| op_pfi .int [25] 107 <| op_ald 0 <| op_call 1 (f_kd 25 F_X8_goesOn) kx_no <| op_ald 0 <| op_call 1 (f_kd 25 F_X8_readAll) kx_no <| op_ald 0 <| op_gfi [25] 111 <| op_ile (op_ald 0 <| op_ald 0 <| op_gfr [25] 102 <| op_pfr [25] 101 <| op_push (.int 0) <| op_ist 2 <| F_X8_kitchen_b99) (op_ald 0 <| op_push (.int 4) <| op_pfi .int [25] 99 <| F_X8_kitchen_b79)) (F_X8_kitchen_b17))
theorem bs_X8_kitchen_b0 : B_S M_X8_kitchen 0 (F_X8_kitchen_b0) z_O k_O := by
  unfold F_X8_kitchen_b0
  refine BS_aload_n dX8_kitchen_0 rfl ?_
  refine BS_iconst dX8_kitchen_1 (by decide) ?_
  refine BS_pfi p_X8_53 (fun h => by cases h) dX8_kitchen_2 ?_
  refine BS_iload_n dX8_kitchen_5 rfl ?_
  refine BS_if_lt (tgt := 17) dX8_kitchen_6 (by decide) ?_ ?_
  · exact bs_X8_kitchen_b17
  · refine BS_iload_n dX8_kitchen_9 rfl ?_
    refine BS_aload_n dX8_kitchen_10 rfl ?_
    refine BS_gfi f_X8_366 dX8_kitchen_11 ?_
    refine BS_icmp_le (tgt := 23) dX8_kitchen_14 (by decide) ?_ ?_
    · refine BS_aload_n dX8_kitchen_23 rfl ?_
      refine BS_iload_n dX8_kitchen_24 rfl ?_
      refine BS_pfi p_X8_70 (fun h => by cases h) dX8_kitchen_25 ?_
      refine BS_aload_n dX8_kitchen_28 rfl ?_
      refine BS_iconst dX8_kitchen_29 (by decide) ?_
      refine BS_pfi p_X8_366 (fun h => by cases h) dX8_kitchen_30 ?_
      refine BS_aload_n dX8_kitchen_33 rfl ?_
      refine BS_iconst dX8_kitchen_34 (by decide) ?_
      refine BS_pfi p_X8_88 (fun h => by cases h) dX8_kitchen_35 ?_
      refine BS_aload_n dX8_kitchen_38 rfl ?_
      refine BS_iconst dX8_kitchen_39 (by decide) ?_
      refine BS_pfi p_X8_114 (fun h => by cases h) dX8_kitchen_40 ?_
      refine BS_aload_n dX8_kitchen_43 rfl ?_
      refine BS_new dX8_kitchen_44 (ci := 16) rfl rfl q1753 q1754 q163 ?_
      refine BS_dup dX8_kitchen_47 ?_
      refine BS_call (run_IN dX8_kitchen_48 con_X20_init q1755 q1756 q163 q1757 rfl pd_X20_init ⟨Nat.le_of_ble_eq_true rfl, Nat.le_of_ble_eq_true rfl⟩) BV_no ?_
      refine BS_pfr p_X8_171 rfl (fun h => by cases h) dX8_kitchen_51 ?_
      refine BS_aload_n dX8_kitchen_54 rfl ?_
      refine BS_iconst dX8_kitchen_55 (by decide) ?_
      refine BS_pfi p_X8_85 (fun h => by cases h) dX8_kitchen_56 ?_
      refine BS_aload_n dX8_kitchen_59 rfl ?_
      refine BS_call (run_V dX8_kitchen_60 con_X8_goesOn (ci := 15) rfl rfl q1881 q1883 qs59 q146 q1884 pd_X8_goesOn ⟨Nat.le_of_ble_eq_true rfl, Nat.le_of_ble_eq_true rfl⟩) BV_no ?_
      refine BS_aload_n dX8_kitchen_63 rfl ?_
      refine BS_call (run_V dX8_kitchen_64 con_X8_readAll (ci := 15) rfl rfl q1896 q1898 qs61 q146 q1899 pd_X8_readAll ⟨Nat.le_of_ble_eq_true rfl, Nat.le_of_ble_eq_true rfl⟩) BV_no ?_
      refine BS_aload_n dX8_kitchen_67 rfl ?_
      refine BS_gfi f_X8_114 dX8_kitchen_68 ?_
      refine BS_if_le (tgt := 89) dX8_kitchen_71 (by decide) ?_ ?_
      · refine BS_aload_n dX8_kitchen_89 rfl ?_
        refine BS_aload_n dX8_kitchen_90 rfl ?_
        refine BS_gfr f_X8_171 dX8_kitchen_91 ?_
        refine BS_pfr p_X8_373 rfl (fun h => by cases h) dX8_kitchen_94 ?_
        refine BS_iconst dX8_kitchen_97 (by decide) ?_
        refine BS_istore_n dX8_kitchen_98 rfl (Nat.le_of_ble_eq_true rfl) ?_
        exact bs_X8_kitchen_b99
      · refine BS_aload_n dX8_kitchen_74 rfl ?_
        refine BS_iconst dX8_kitchen_75 (by decide) ?_
        refine BS_pfi p_X8_56 (fun h => by cases h) dX8_kitchen_76 ?_
        exact bs_X8_kitchen_b79
    · exact bs_X8_kitchen_b17
noncomputable def F_X8_kitchen : FF := mk_F 3 F_X8_kitchen_b0
theorem con_X8_kitchen : Con_ yX8_kitchen (ws_ yX8_kitchen cX8_kitchen 3 (some .int)) 12 255 F_X8_kitchen := Con_of (by decide +kernel) bs_X8_kitchen_b0
/-- LongerHalfModel.fault()I -/
abbrev M_X8_fault : MM := (yX8_fault, cX8_fault, (some .int), 0, 0, 1, [])
theorem pd_X8_fault : (yX8_fault.cls ≠ "java/lang/invoke/MethodHandle" ∧ yX8_fault.cls ≠ "java/lang/invoke/VarHandle") ∧ (parseMethodDescriptor yX8_fault.desc).map (fun d => d.parameters.length) = some 0 := ⟨⟨by decide +kernel, by decide +kernel⟩, by decide +kernel⟩
noncomputable def F_X8_fault_b0 : KK OO :=
  op_ald 0 <| op_push (.int 0) <| op_pfi .int [25] 98 <| op_ald 0 <| op_gfi [25] 111 <| op_iret .int
theorem bs_X8_fault_b0 : B_S M_X8_fault 0 (F_X8_fault_b0) z_O k_O := by
  unfold F_X8_fault_b0
  refine BS_aload_n dX8_fault_0 rfl ?_
  refine BS_iconst dX8_fault_1 (by decide) ?_
  refine BS_pfi p_X8_53 (fun h => by cases h) dX8_fault_2 ?_
  refine BS_aload_n dX8_fault_5 rfl ?_
  refine BS_gfi f_X8_114 dX8_fault_6 ?_
  exact BS_ireturn dX8_fault_9 rfl
noncomputable def F_X8_fault : FF := mk_F 1 F_X8_fault_b0
theorem con_X8_fault : Con_ yX8_fault (ws_ yX8_fault cX8_fault 1 (some .int)) 0 0 F_X8_fault := Con_of (by decide +kernel) bs_X8_fault_b0
/-- LongerHalfModel.where()I -/
abbrev M_X8_where : MM := (yX8_where, cX8_where, (some .int), 0, 0, 1, [])
theorem pd_X8_where : (yX8_where.cls ≠ "java/lang/invoke/MethodHandle" ∧ yX8_where.cls ≠ "java/lang/invoke/VarHandle") ∧ (parseMethodDescriptor yX8_where.desc).map (fun d => d.parameters.length) = some 0 := ⟨⟨by decide +kernel, by decide +kernel⟩, by decide +kernel⟩
noncomputable def F_X8_where_b0 : KK OO :=
  op_ald 0 <| op_push (.int 0) <| op_pfi .int [25] 98 <| op_ald 0 <| op_gfi [25] 100 <| op_iret .int
theorem bs_X8_where_b0 : B_S M_X8_where 0 (F_X8_where_b0) z_O k_O := by
  unfold F_X8_where_b0
  refine BS_aload_n dX8_where_0 rfl ?_
  refine BS_iconst dX8_where_1 (by decide) ?_
  refine BS_pfi p_X8_53 (fun h => by cases h) dX8_where_2 ?_
  refine BS_aload_n dX8_where_5 rfl ?_
  refine BS_gfi f_X8_9 dX8_where_6 ?_
  exact BS_ireturn dX8_where_9 rfl
noncomputable def F_X8_where : FF := mk_F 1 F_X8_where_b0
theorem con_X8_where : Con_ yX8_where (ws_ yX8_where cX8_where 1 (some .int)) 0 0 F_X8_where := Con_of (by decide +kernel) bs_X8_where_b0
/-- LongerHalfModel.isBone(I)Z -/
abbrev M_X8_isBone : MM := (yX8_isBone, cX8_isBone, (some .boolean), 0, 0, 2, [])
theorem pd_X8_isBone : (yX8_isBone.cls ≠ "java/lang/invoke/MethodHandle" ∧ yX8_isBone.cls ≠ "java/lang/invoke/VarHandle") ∧ (parseMethodDescriptor yX8_isBone.desc).map (fun d => d.parameters.length) = some 1 := ⟨⟨by decide +kernel, by decide +kernel⟩, by decide +kernel⟩
noncomputable def F_X8_isBone_b0 : KK OO :=
  op_ald 0 <| op_gfr [25] 101 <| op_ifn (op_push (.int 0) <| op_iret .boolean) (op_ild 1 <| op_ilt (op_push (.int 0) <| op_iret .boolean) (op_ild 1 <| op_ald 0 <| op_gfr [25] 101 <| op_gfi [26] 142 <| op_cge (op_push (.int 0) <| op_iret .boolean) (op_push (.int 1) <| op_iret .boolean)))
theorem bs_X8_isBone_b0 : B_S M_X8_isBone 0 (F_X8_isBone_b0) z_O k_O := by
  unfold F_X8_isBone_b0
  refine BS_aload_n dX8_isBone_0 rfl ?_
  refine BS_gfr f_X8_373 dX8_isBone_1 ?_
  refine BS_ifnull (tgt := 26) dX8_isBone_4 (by decide) ?_ ?_
  · refine BS_iconst dX8_isBone_26 (by decide) ?_
    exact BS_ireturn dX8_isBone_27 rfl
  · refine BS_iload_n dX8_isBone_7 rfl ?_
    refine BS_if_lt (tgt := 26) dX8_isBone_8 (by decide) ?_ ?_
    · refine BS_iconst dX8_isBone_26 (by decide) ?_
      exact BS_ireturn dX8_isBone_27 rfl
    · refine BS_iload_n dX8_isBone_11 rfl ?_
      refine BS_aload_n dX8_isBone_12 rfl ?_
      refine BS_gfr f_X8_373 dX8_isBone_13 ?_
      refine BS_gfi f_X8_210 dX8_isBone_16 ?_
      refine BS_icmp_ge (tgt := 26) dX8_isBone_19 (by decide) ?_ ?_
      · refine BS_iconst dX8_isBone_26 (by decide) ?_
        exact BS_ireturn dX8_isBone_27 rfl
      · refine BS_iconst dX8_isBone_22 (by decide) ?_
        refine BS_goto (tgt := 27) dX8_isBone_23 (by decide) ?_
        exact BS_ireturn dX8_isBone_27 rfl
noncomputable def F_X8_isBone : FF := mk_F 2 F_X8_isBone_b0
theorem con_X8_isBone : Con_ yX8_isBone (ws_ yX8_isBone cX8_isBone 2 (some .boolean)) 0 0 F_X8_isBone := Con_of (by decide +kernel) bs_X8_isBone_b0
/-- LongerHalfModel.bone(II)I -/
abbrev M_X8_bone : MM := (yX8_bone, cX8_bone, (some .int), 1, 22, 3, [])
theorem pd_X8_bone : (yX8_bone.cls ≠ "java/lang/invoke/MethodHandle" ∧ yX8_bone.cls ≠ "java/lang/invoke/VarHandle") ∧ (parseMethodDescriptor yX8_bone.desc).map (fun d => d.parameters.length) = some 2 := ⟨⟨by decide +kernel, by decide +kernel⟩, by decide +kernel⟩
noncomputable def F_X8_bone_b22 : KK OO :=
  op_ald 0 <| op_push (.int 1) <| op_call 2 (f_kd 25 F_X8_refused) kx_no <| op_iret .int
theorem bs_X8_bone_b22 : B_S M_X8_bone 22 (F_X8_bone_b22) z_O k_O := by
  unfold F_X8_bone_b22
  refine BS_aload_n dX8_bone_22 rfl ?_
  refine BS_iconst dX8_bone_23 (by decide) ?_
  refine BS_call (run_V dX8_bone_24 con_X8_refused (ci := 15) rfl rfl q1749 q1751 qs58 q146 q1752 pd_X8_refused ⟨Nat.le_of_ble_eq_true rfl, Nat.le_of_ble_eq_true rfl⟩) BV_no ?_
  exact BS_ireturn dX8_bone_27 rfl
noncomputable def F_X8_bone_b114 : KK OO :=
  op_ald 0 <| op_ald 0 <| op_gfr [25] 114 <| op_push (.int 10) <| op_iald 1 <| op_ild 1 <| op_i2 (fun x y => x >>> (y &&& 31)) <| op_push (.int 1) <| op_i2 (fun x y => x &&& y) <| op_call 2 (f_kd 25 F_X8_good) kx_no <| op_iret .int
theorem bs_X8_bone_b114 : B_S M_X8_bone 114 (F_X8_bone_b114) z_O k_O := by
  unfold F_X8_bone_b114
  refine BS_aload_n dX8_bone_114 rfl ?_
  refine BS_aload_n dX8_bone_115 rfl ?_
  refine BS_gfr f_X8_17 dX8_bone_116 ?_
  refine BS_bipush dX8_bone_119 (by decide) ?_
  refine BS_iaload dX8_bone_121 ?_
  refine BS_iload_n dX8_bone_122 rfl ?_
  refine BS_ishr dX8_bone_123 ?_
  refine BS_iconst dX8_bone_124 (by decide) ?_
  refine BS_iand dX8_bone_125 ?_
  refine BS_call (run_V dX8_bone_126 con_X8_good (ci := 15) rfl rfl q2063 q2065 qs86 q146 q2066 pd_X8_good ⟨Nat.le_of_ble_eq_true rfl, Nat.le_of_ble_eq_true rfl⟩) BV_no ?_
  exact BS_ireturn dX8_bone_129 rfl
noncomputable def F_X8_bone_b60 : KK OO :=
  op_ald 0 <| op_ald 0 <| op_gfr [25] 114 <| op_push (.int 0) <| op_ild 1 <| op_i2 (fun x y => x + y) <| op_iald 1 <| op_call 2 (f_kd 25 F_X8_good) kx_no <| op_iret .int
theorem bs_X8_bone_b60 : B_S M_X8_bone 60 (F_X8_bone_b60) z_O k_O := by
  unfold F_X8_bone_b60
  refine BS_aload_n dX8_bone_60 rfl ?_
  refine BS_aload_n dX8_bone_61 rfl ?_
  refine BS_gfr f_X8_17 dX8_bone_62 ?_
  refine BS_iconst dX8_bone_65 (by decide) ?_
  refine BS_iload_n dX8_bone_66 rfl ?_
  refine BS_iadd dX8_bone_67 ?_
  refine BS_iaload dX8_bone_68 ?_
  refine BS_call (run_V dX8_bone_69 con_X8_good (ci := 15) rfl rfl q2063 q2065 qs86 q146 q2066 pd_X8_good ⟨Nat.le_of_ble_eq_true rfl, Nat.le_of_ble_eq_true rfl⟩) BV_no ?_
  exact BS_ireturn dX8_bone_72 rfl
noncomputable def F_X8_bone_b73 : KK OO :=
  op_ald 0 <| op_ald 0 <| op_gfr [25] 114 <| op_push (.int 5) <| op_ild 1 <| op_i2 (fun x y => x + y) <| op_iald 1 <| op_call 2 (f_kd 25 F_X8_good) kx_no <| op_iret .int
theorem bs_X8_bone_b73 : B_S M_X8_bone 73 (F_X8_bone_b73) z_O k_O := by
  unfold F_X8_bone_b73
  refine BS_aload_n dX8_bone_73 rfl ?_
  refine BS_aload_n dX8_bone_74 rfl ?_
  refine BS_gfr f_X8_17 dX8_bone_75 ?_
  refine BS_iconst dX8_bone_78 (by decide) ?_
  refine BS_iload_n dX8_bone_79 rfl ?_
  refine BS_iadd dX8_bone_80 ?_
  refine BS_iaload dX8_bone_81 ?_
  refine BS_call (run_V dX8_bone_82 con_X8_good (ci := 15) rfl rfl q2063 q2065 qs86 q146 q2066 pd_X8_good ⟨Nat.le_of_ble_eq_true rfl, Nat.le_of_ble_eq_true rfl⟩) BV_no ?_
  exact BS_ireturn dX8_bone_85 rfl
noncomputable def F_X8_bone_b86 : KK OO :=
  op_ald 0 <| op_ald 0 <| op_gfr [25] 101 <| op_ild 1 <| op_push (.int 0) <| op_call 3 (f_kd 26 F_X20_many) kx_no <| op_call 2 (f_kd 25 F_X8_good) kx_no <| op_iret .int
theorem bs_X8_bone_b86 : B_S M_X8_bone 86 (F_X8_bone_b86) z_O k_O := by
  unfold F_X8_bone_b86
  refine BS_aload_n dX8_bone_86 rfl ?_
  refine BS_aload_n dX8_bone_87 rfl ?_
  refine BS_gfr f_X8_373 dX8_bone_88 ?_
  refine BS_iload_n dX8_bone_91 rfl ?_
  refine BS_iconst dX8_bone_92 (by decide) ?_
  refine BS_call (run_V dX8_bone_93 con_X20_many (ci := 16) rfl rfl q2083 q2084 q2085 q163 q2086 pd_X20_many ⟨Nat.le_of_ble_eq_true rfl, Nat.le_of_ble_eq_true rfl⟩) BV_no ?_
  refine BS_call (run_V dX8_bone_96 con_X8_good (ci := 15) rfl rfl q2063 q2065 qs86 q146 q2066 pd_X8_good ⟨Nat.le_of_ble_eq_true rfl, Nat.le_of_ble_eq_true rfl⟩) BV_no ?_
  exact BS_ireturn dX8_bone_99 rfl
noncomputable def F_X8_bone_b100 : KK OO :=
  op_ald 0 <| op_ald 0 <| op_gfr [25] 101 <| op_ild 1 <| op_push (.int 1) <| op_call 3 (f_kd 26 F_X20_many) kx_no <| op_call 2 (f_kd 25 F_X8_good) kx_no <| op_iret .int
theorem bs_X8_bone_b100 : B_S M_X8_bone 100 (F_X8_bone_b100) z_O k_O := by
  unfold F_X8_bone_b100
  refine BS_aload_n dX8_bone_100 rfl ?_
  refine BS_aload_n dX8_bone_101 rfl ?_
  refine BS_gfr f_X8_373 dX8_bone_102 ?_
  refine BS_iload_n dX8_bone_105 rfl ?_
  refine BS_iconst dX8_bone_106 (by decide) ?_
  refine BS_call (run_V dX8_bone_107 con_X20_many (ci := 16) rfl rfl q2083 q2084 q2085 q163 q2086 pd_X20_many ⟨Nat.le_of_ble_eq_true rfl, Nat.le_of_ble_eq_true rfl⟩) BV_no ?_
  refine BS_call (run_V dX8_bone_110 con_X8_good (ci := 15) rfl rfl q2063 q2065 qs86 q146 q2066 pd_X8_good ⟨Nat.le_of_ble_eq_true rfl, Nat.le_of_ble_eq_true rfl⟩) BV_no ?_
  exact BS_ireturn dX8_bone_113 rfl
noncomputable def F_X8_bone_b0 : KK OO :=
  op_ald 0 <| op_push (.int 0) <| op_pfi .int [25] 98 <| op_ald 0 <| op_ild 1 <| op_call 2 (f_kd 25 F_X8_isBone) kx_no <| op_ieq (F_X8_bone_b22) (op_ild 2 <| op_push (.int 0) <| op_push (.int 4) <| op_call 3 F_X8_in kx_no <| op_ine (op_ild 2 <| op_sw [((0), F_X8_bone_b60), ((1), F_X8_bone_b73), ((2), F_X8_bone_b86), ((3), F_X8_bone_b100)] (F_X8_bone_b114)) (F_X8_bone_b22))
theorem bs_X8_bone_b0 : B_S M_X8_bone 0 (F_X8_bone_b0) z_O k_O := by
  unfold F_X8_bone_b0
  refine BS_aload_n dX8_bone_0 rfl ?_
  refine BS_iconst dX8_bone_1 (by decide) ?_
  refine BS_pfi p_X8_53 (fun h => by cases h) dX8_bone_2 ?_
  refine BS_aload_n dX8_bone_5 rfl ?_
  refine BS_iload_n dX8_bone_6 rfl ?_
  refine BS_call (run_V dX8_bone_7 con_X8_isBone (ci := 15) rfl rfl q2079 q2081 qs87 q146 q2082 pd_X8_isBone ⟨Nat.le_of_ble_eq_true rfl, Nat.le_of_ble_eq_true rfl⟩) BV_no ?_
  refine BS_if_eq (tgt := 22) dX8_bone_10 (by decide) ?_ ?_
  · exact bs_X8_bone_b22
  · refine BS_iload_n dX8_bone_13 rfl ?_
    refine BS_iconst dX8_bone_14 (by decide) ?_
    refine BS_iconst dX8_bone_15 (by decide) ?_
    refine BS_call (run_S dX8_bone_16 con_X8_in q1965 q1966 q146 q1967 pd_X8_in ⟨Nat.le_of_ble_eq_true rfl, Nat.le_of_ble_eq_true rfl⟩) BV_no ?_
    refine BS_if_ne (tgt := 28) dX8_bone_19 (by decide) ?_ ?_
    · refine BS_iload_n dX8_bone_28 rfl ?_
      refine BS_tsw dX8_bone_29 (by decide) (td := 114) (by decide) ?_ ?_
      · exact bs_X8_bone_b114
      · exact ⟨by decide, ⟨60, by decide, by
        exact bs_X8_bone_b60⟩, ⟨by decide, ⟨73, by decide, by
        exact bs_X8_bone_b73⟩, ⟨by decide, ⟨86, by decide, by
        exact bs_X8_bone_b86⟩, ⟨by decide, ⟨100, by decide, by
        exact bs_X8_bone_b100⟩, trivial⟩⟩⟩⟩
    · exact bs_X8_bone_b22
noncomputable def F_X8_bone : FF := mk_F 3 F_X8_bone_b0
theorem con_X8_bone : Con_ yX8_bone (ws_ yX8_bone cX8_bone 3 (some .int)) 1 22 F_X8_bone := Con_of (by decide +kernel) bs_X8_bone_b0
/-- LongerHalfModel.isPlace(III)Z -/
abbrev M_X8_isPlace : MM := (yX8_isPlace, cX8_isPlace, (some .boolean), 1, 22, 4, [])
theorem pd_X8_isPlace : (yX8_isPlace.cls ≠ "java/lang/invoke/MethodHandle" ∧ yX8_isPlace.cls ≠ "java/lang/invoke/VarHandle") ∧ (parseMethodDescriptor yX8_isPlace.desc).map (fun d => d.parameters.length) = some 3 := ⟨⟨by decide +kernel, by decide +kernel⟩, by decide +kernel⟩
noncomputable def F_X8_isPlace_b0 : KK OO :=
  op_ald 0 <| op_ild 1 <| op_call 2 (f_kd 25 F_X8_isBone) kx_no <| op_ieq (op_push (.int 0) <| op_iret .boolean) (op_ild 2 <| op_push (.int 0) <| op_push (.int 1) <| op_call 3 F_X8_in kx_no <| op_ieq (op_push (.int 0) <| op_iret .boolean) (op_ild 3 <| op_ilt (op_push (.int 0) <| op_iret .boolean) (op_ild 3 <| op_ald 0 <| op_gfr [25] 101 <| op_ild 1 <| op_ild 2 <| op_call 3 (f_kd 26 F_X20_many) kx_no <| op_cge (op_push (.int 0) <| op_iret .boolean) (op_push (.int 1) <| op_iret .boolean))))
theorem bs_X8_isPlace_b0 : B_S M_X8_isPlace 0 (F_X8_isPlace_b0) z_O k_O := by
  unfold F_X8_isPlace_b0
  refine BS_aload_n dX8_isPlace_0 rfl ?_
  refine BS_iload_n dX8_isPlace_1 rfl ?_
  refine BS_call (run_V dX8_isPlace_2 con_X8_isBone (ci := 15) rfl rfl q2079 q2081 qs87 q146 q2082 pd_X8_isBone ⟨Nat.le_of_ble_eq_true rfl, Nat.le_of_ble_eq_true rfl⟩) BV_no ?_
  refine BS_if_eq (tgt := 38) dX8_isPlace_5 (by decide) ?_ ?_
  · refine BS_iconst dX8_isPlace_38 (by decide) ?_
    exact BS_ireturn dX8_isPlace_39 rfl
  · refine BS_iload_n dX8_isPlace_8 rfl ?_
    refine BS_iconst dX8_isPlace_9 (by decide) ?_
    refine BS_iconst dX8_isPlace_10 (by decide) ?_
    refine BS_call (run_S dX8_isPlace_11 con_X8_in q1965 q1966 q146 q1967 pd_X8_in ⟨Nat.le_of_ble_eq_true rfl, Nat.le_of_ble_eq_true rfl⟩) BV_no ?_
    refine BS_if_eq (tgt := 38) dX8_isPlace_14 (by decide) ?_ ?_
    · refine BS_iconst dX8_isPlace_38 (by decide) ?_
      exact BS_ireturn dX8_isPlace_39 rfl
    · refine BS_iload_n dX8_isPlace_17 rfl ?_
      refine BS_if_lt (tgt := 38) dX8_isPlace_18 (by decide) ?_ ?_
      · refine BS_iconst dX8_isPlace_38 (by decide) ?_
        exact BS_ireturn dX8_isPlace_39 rfl
      · refine BS_iload_n dX8_isPlace_21 rfl ?_
        refine BS_aload_n dX8_isPlace_22 rfl ?_
        refine BS_gfr f_X8_373 dX8_isPlace_23 ?_
        refine BS_iload_n dX8_isPlace_26 rfl ?_
        refine BS_iload_n dX8_isPlace_27 rfl ?_
        refine BS_call (run_V dX8_isPlace_28 con_X20_many (ci := 16) rfl rfl q2083 q2084 q2085 q163 q2086 pd_X20_many ⟨Nat.le_of_ble_eq_true rfl, Nat.le_of_ble_eq_true rfl⟩) BV_no ?_
        refine BS_icmp_ge (tgt := 38) dX8_isPlace_31 (by decide) ?_ ?_
        · refine BS_iconst dX8_isPlace_38 (by decide) ?_
          exact BS_ireturn dX8_isPlace_39 rfl
        · refine BS_iconst dX8_isPlace_34 (by decide) ?_
          refine BS_goto (tgt := 39) dX8_isPlace_35 (by decide) ?_
          exact BS_ireturn dX8_isPlace_39 rfl
noncomputable def F_X8_isPlace : FF := mk_F 4 F_X8_isPlace_b0
theorem con_X8_isPlace : Con_ yX8_isPlace (ws_ yX8_isPlace cX8_isPlace 4 (some .boolean)) 1 22 F_X8_isPlace := Con_of (by decide +kernel) bs_X8_isPlace_b0
/-- LongerHalfModel.thick(III)I -/
abbrev M_X8_thick : MM := (yX8_thick, cX8_thick, (some .int), 2, 45, 4, [])
theorem pd_X8_thick : (yX8_thick.cls ≠ "java/lang/invoke/MethodHandle" ∧ yX8_thick.cls ≠ "java/lang/invoke/VarHandle") ∧ (parseMethodDescriptor yX8_thick.desc).map (fun d => d.parameters.length) = some 3 := ⟨⟨by decide +kernel, by decide +kernel⟩, by decide +kernel⟩
noncomputable def F_X8_thick_b0 : KK OO :=
  op_ald 0 <| op_push (.int 0) <| op_pfi .int [25] 98 <| op_ald 0 <| op_ild 1 <| op_ild 2 <| op_ild 3 <| op_call 4 (f_kd 25 F_X8_isPlace) kx_no <| op_ieq (op_ald 0 <| op_push (.int 1) <| op_call 2 (f_kd 25 F_X8_refused) kx_no <| op_iret .int) (op_ald 0 <| op_ald 0 <| op_gfr [25] 101 <| op_ild 1 <| op_ild 2 <| op_ild 3 <| op_call 4 (f_kd 26 F_X20_thickAt) kx_no <| op_call 2 (f_kd 25 F_X8_good) kx_no <| op_iret .int)
theorem bs_X8_thick_b0 : B_S M_X8_thick 0 (F_X8_thick_b0) z_O k_O := by
  unfold F_X8_thick_b0
  refine BS_aload_n dX8_thick_0 rfl ?_
  refine BS_iconst dX8_thick_1 (by decide) ?_
  refine BS_pfi p_X8_53 (fun h => by cases h) dX8_thick_2 ?_
  refine BS_aload_n dX8_thick_5 rfl ?_
  refine BS_iload_n dX8_thick_6 rfl ?_
  refine BS_iload_n dX8_thick_7 rfl ?_
  refine BS_iload_n dX8_thick_8 rfl ?_
  refine BS_call (run_V dX8_thick_9 con_X8_isPlace (ci := 15) rfl rfl q2091 q2093 qs88 q146 q2094 pd_X8_isPlace ⟨Nat.le_of_ble_eq_true rfl, Nat.le_of_ble_eq_true rfl⟩) BV_no ?_
  refine BS_if_eq (tgt := 32) dX8_thick_12 (by decide) ?_ ?_
  · refine BS_aload_n dX8_thick_32 rfl ?_
    refine BS_iconst dX8_thick_33 (by decide) ?_
    refine BS_call (run_V dX8_thick_34 con_X8_refused (ci := 15) rfl rfl q1749 q1751 qs58 q146 q1752 pd_X8_refused ⟨Nat.le_of_ble_eq_true rfl, Nat.le_of_ble_eq_true rfl⟩) BV_no ?_
    exact BS_ireturn dX8_thick_37 rfl
  · refine BS_aload_n dX8_thick_15 rfl ?_
    refine BS_aload_n dX8_thick_16 rfl ?_
    refine BS_gfr f_X8_373 dX8_thick_17 ?_
    refine BS_iload_n dX8_thick_20 rfl ?_
    refine BS_iload_n dX8_thick_21 rfl ?_
    refine BS_iload_n dX8_thick_22 rfl ?_
    refine BS_call (run_V dX8_thick_23 con_X20_thickAt (ci := 16) rfl rfl q2095 q2096 q2097 q163 q2098 pd_X20_thickAt ⟨Nat.le_of_ble_eq_true rfl, Nat.le_of_ble_eq_true rfl⟩) BV_no ?_
    refine BS_call (run_V dX8_thick_26 con_X8_good (ci := 15) rfl rfl q2063 q2065 qs86 q146 q2066 pd_X8_good ⟨Nat.le_of_ble_eq_true rfl, Nat.le_of_ble_eq_true rfl⟩) BV_no ?_
    refine BS_goto (tgt := 37) dX8_thick_29 (by decide) ?_
    exact BS_ireturn dX8_thick_37 rfl
noncomputable def F_X8_thick : FF := mk_F 4 F_X8_thick_b0
theorem con_X8_thick : Con_ yX8_thick (ws_ yX8_thick cX8_thick 4 (some .int)) 2 45 F_X8_thick := Con_of (by decide +kernel) bs_X8_thick_b0
/-- LongerHalfModel.isPerson(I)Z -/
abbrev M_X8_isPerson : MM := (yX8_isPerson, cX8_isPerson, (some .boolean), 0, 0, 2, [])
theorem pd_X8_isPerson : (yX8_isPerson.cls ≠ "java/lang/invoke/MethodHandle" ∧ yX8_isPerson.cls ≠ "java/lang/invoke/VarHandle") ∧ (parseMethodDescriptor yX8_isPerson.desc).map (fun d => d.parameters.length) = some 1 := ⟨⟨by decide +kernel, by decide +kernel⟩, by decide +kernel⟩
noncomputable def F_X8_isPerson_b0 : KK OO :=
  op_ald 0 <| op_gfr [25] 101 <| op_ifn (op_push (.int 0) <| op_iret .boolean) (op_ild 1 <| op_ilt (op_push (.int 0) <| op_iret .boolean) (op_ild 1 <| op_ald 0 <| op_gfr [25] 101 <| op_gfi [26] 143 <| op_cge (op_push (.int 0) <| op_iret .boolean) (op_push (.int 1) <| op_iret .boolean)))
theorem bs_X8_isPerson_b0 : B_S M_X8_isPerson 0 (F_X8_isPerson_b0) z_O k_O := by
  unfold F_X8_isPerson_b0
  refine BS_aload_n dX8_isPerson_0 rfl ?_
  refine BS_gfr f_X8_373 dX8_isPerson_1 ?_
  refine BS_ifnull (tgt := 26) dX8_isPerson_4 (by decide) ?_ ?_
  · refine BS_iconst dX8_isPerson_26 (by decide) ?_
    exact BS_ireturn dX8_isPerson_27 rfl
  · refine BS_iload_n dX8_isPerson_7 rfl ?_
    refine BS_if_lt (tgt := 26) dX8_isPerson_8 (by decide) ?_ ?_
    · refine BS_iconst dX8_isPerson_26 (by decide) ?_
      exact BS_ireturn dX8_isPerson_27 rfl
    · refine BS_iload_n dX8_isPerson_11 rfl ?_
      refine BS_aload_n dX8_isPerson_12 rfl ?_
      refine BS_gfr f_X8_373 dX8_isPerson_13 ?_
      refine BS_gfi f_X8_213 dX8_isPerson_16 ?_
      refine BS_icmp_ge (tgt := 26) dX8_isPerson_19 (by decide) ?_ ?_
      · refine BS_iconst dX8_isPerson_26 (by decide) ?_
        exact BS_ireturn dX8_isPerson_27 rfl
      · refine BS_iconst dX8_isPerson_22 (by decide) ?_
        refine BS_goto (tgt := 27) dX8_isPerson_23 (by decide) ?_
        exact BS_ireturn dX8_isPerson_27 rfl
noncomputable def F_X8_isPerson : FF := mk_F 2 F_X8_isPerson_b0
theorem con_X8_isPerson : Con_ yX8_isPerson (ws_ yX8_isPerson cX8_isPerson 2 (some .boolean)) 0 0 F_X8_isPerson := Con_of (by decide +kernel) bs_X8_isPerson_b0
/-- LongerHalfModel.wonBy(I)I -/
abbrev M_X8_wonBy : MM := (yX8_wonBy, cX8_wonBy, (some .int), 0, 0, 4, [])
theorem pd_X8_wonBy : (yX8_wonBy.cls ≠ "java/lang/invoke/MethodHandle" ∧ yX8_wonBy.cls ≠ "java/lang/invoke/VarHandle") ∧ (parseMethodDescriptor yX8_wonBy.desc).map (fun d => d.parameters.length) = some 1 := ⟨⟨by decide +kernel, by decide +kernel⟩, by decide +kernel⟩
noncomputable def F_X8_wonBy_l4 : KK (L_S ⊕ OO) :=
  op_ild 3 <| op_ald 0 <| op_gfr [25] 101 <| op_gfi [26] 145 <| op_cge (op_exit <| op_ild 2 <| op_iret .int) (op_ild 2 <| op_ald 0 <| op_gfr [25] 101 <| op_gfr [26] 159 <| op_ild 3 <| op_iald 1 <| op_ild 1 <| op_cne (op_push (.int 0) <| op_i2 (fun x y => x + y) <| op_ist 2 <| op_iinc 3 1 <| op_back) (op_push (.int 1) <| op_i2 (fun x y => x + y) <| op_ist 2 <| op_iinc 3 1 <| op_back))
theorem bs_X8_wonBy_l4 : B_S M_X8_wonBy 4 (F_X8_wonBy_l4) (z_L z_O) (k_L 4 k_O) := by
  unfold F_X8_wonBy_l4
  refine BS_iload_n dX8_wonBy_4 rfl ?_
  refine BS_aload_n dX8_wonBy_5 rfl ?_
  refine BS_gfr f_X8_373 dX8_wonBy_6 ?_
  refine BS_gfi f_X8_334 dX8_wonBy_9 ?_
  refine BS_icmp_ge (tgt := 42) dX8_wonBy_12 (by decide) ?_ ?_
  · refine BS_exit ?_
    refine BS_iload_n dX8_wonBy_42 rfl ?_
    exact BS_ireturn dX8_wonBy_43 rfl
  · refine BS_iload_n dX8_wonBy_15 rfl ?_
    refine BS_aload_n dX8_wonBy_16 rfl ?_
    refine BS_gfr f_X8_373 dX8_wonBy_17 ?_
    refine BS_gfr f_X8_340 dX8_wonBy_20 ?_
    refine BS_iload_n dX8_wonBy_23 rfl ?_
    refine BS_iaload dX8_wonBy_24 ?_
    refine BS_iload_n dX8_wonBy_25 rfl ?_
    refine BS_icmp_ne (tgt := 33) dX8_wonBy_26 (by decide) ?_ ?_
    · refine BS_iconst dX8_wonBy_33 (by decide) ?_
      refine BS_iadd dX8_wonBy_34 ?_
      refine BS_istore_n dX8_wonBy_35 rfl (Nat.le_of_ble_eq_true rfl) ?_
      refine BS_iinc dX8_wonBy_36 (by decide) (Nat.le_of_ble_eq_true rfl) ?_
      refine BS_goto (tgt := 4) dX8_wonBy_39 (by decide) ?_
      exact BS_back
    · refine BS_iconst dX8_wonBy_29 (by decide) ?_
      refine BS_goto (tgt := 34) dX8_wonBy_30 (by decide) ?_
      refine BS_iadd dX8_wonBy_34 ?_
      refine BS_istore_n dX8_wonBy_35 rfl (Nat.le_of_ble_eq_true rfl) ?_
      refine BS_iinc dX8_wonBy_36 (by decide) (Nat.le_of_ble_eq_true rfl) ?_
      refine BS_goto (tgt := 4) dX8_wonBy_39 (by decide) ?_
      exact BS_back
noncomputable def F_X8_wonBy_b4 : KK OO := op_loop (F_X8_wonBy_l4)
theorem bs_X8_wonBy_b4 : B_S M_X8_wonBy 4 (F_X8_wonBy_b4) z_O k_O := BS_loop (bs_X8_wonBy_l4)
noncomputable def F_X8_wonBy_b0 : KK OO :=
  op_push (.int 0) <| op_ist 2 <| op_push (.int 0) <| op_ist 3 <| F_X8_wonBy_b4
theorem bs_X8_wonBy_b0 : B_S M_X8_wonBy 0 (F_X8_wonBy_b0) z_O k_O := by
  unfold F_X8_wonBy_b0
  refine BS_iconst dX8_wonBy_0 (by decide) ?_
  refine BS_istore_n dX8_wonBy_1 rfl (Nat.le_of_ble_eq_true rfl) ?_
  refine BS_iconst dX8_wonBy_2 (by decide) ?_
  refine BS_istore_n dX8_wonBy_3 rfl (Nat.le_of_ble_eq_true rfl) ?_
  exact bs_X8_wonBy_b4
noncomputable def F_X8_wonBy : FF := mk_F 4 F_X8_wonBy_b0
theorem con_X8_wonBy : Con_ yX8_wonBy (ws_ yX8_wonBy cX8_wonBy 4 (some .int)) 0 0 F_X8_wonBy := Con_of (by decide +kernel) bs_X8_wonBy_b0
/-- LongerHalfModel.pullsOf(I)I -/
abbrev M_X8_pullsOf : MM := (yX8_pullsOf, cX8_pullsOf, (some .int), 1, 23, 4, [])
theorem pd_X8_pullsOf : (yX8_pullsOf.cls ≠ "java/lang/invoke/MethodHandle" ∧ yX8_pullsOf.cls ≠ "java/lang/invoke/VarHandle") ∧ (parseMethodDescriptor yX8_pullsOf.desc).map (fun d => d.parameters.length) = some 1 := ⟨⟨by decide +kernel, by decide +kernel⟩, by decide +kernel⟩
noncomputable def F_X8_pullsOf_l8 : KK (L_S ⊕ OO) :=
  op_ild 3 <| op_ald 0 <| op_gfr [25] 101 <| op_gfi [26] 145 <| op_cge (op_exit <| op_ild 2 <| op_iret .int) (op_ild 2 <| op_ald 0 <| op_gfr [25] 101 <| op_gfr [26] 160 <| op_ild 3 <| op_iald 1 <| op_ild 1 <| op_cne (op_push (.int 0) <| op_i2 (fun x y => x + y) <| op_ist 2 <| op_iinc 3 1 <| op_back) (op_push (.int 1) <| op_i2 (fun x y => x + y) <| op_ist 2 <| op_iinc 3 1 <| op_back))
theorem bs_X8_pullsOf_l8 : B_S M_X8_pullsOf 8 (F_X8_pullsOf_l8) (z_L z_O) (k_L 8 k_O) := by
  unfold F_X8_pullsOf_l8
  refine BS_iload_n dX8_pullsOf_8 rfl ?_
  refine BS_aload_n dX8_pullsOf_9 rfl ?_
  refine BS_gfr f_X8_373 dX8_pullsOf_10 ?_
  refine BS_gfi f_X8_334 dX8_pullsOf_13 ?_
  refine BS_icmp_ge (tgt := 46) dX8_pullsOf_16 (by decide) ?_ ?_
  · refine BS_exit ?_
    refine BS_iload_n dX8_pullsOf_46 rfl ?_
    exact BS_ireturn dX8_pullsOf_47 rfl
  · refine BS_iload_n dX8_pullsOf_19 rfl ?_
    refine BS_aload_n dX8_pullsOf_20 rfl ?_
    refine BS_gfr f_X8_373 dX8_pullsOf_21 ?_
    refine BS_gfr f_X8_343 dX8_pullsOf_24 ?_
    refine BS_iload_n dX8_pullsOf_27 rfl ?_
    refine BS_iaload dX8_pullsOf_28 ?_
    refine BS_iload_n dX8_pullsOf_29 rfl ?_
    refine BS_icmp_ne (tgt := 37) dX8_pullsOf_30 (by decide) ?_ ?_
    · refine BS_iconst dX8_pullsOf_37 (by decide) ?_
      refine BS_iadd dX8_pullsOf_38 ?_
      refine BS_istore_n dX8_pullsOf_39 rfl (Nat.le_of_ble_eq_true rfl) ?_
      refine BS_iinc dX8_pullsOf_40 (by decide) (Nat.le_of_ble_eq_true rfl) ?_
      refine BS_goto (tgt := 8) dX8_pullsOf_43 (by decide) ?_
      exact BS_back
    · refine BS_iconst dX8_pullsOf_33 (by decide) ?_
      refine BS_goto (tgt := 38) dX8_pullsOf_34 (by decide) ?_
      refine BS_iadd dX8_pullsOf_38 ?_
      refine BS_istore_n dX8_pullsOf_39 rfl (Nat.le_of_ble_eq_true rfl) ?_
      refine BS_iinc dX8_pullsOf_40 (by decide) (Nat.le_of_ble_eq_true rfl) ?_
      refine BS_goto (tgt := 8) dX8_pullsOf_43 (by decide) ?_
      exact BS_back
noncomputable def F_X8_pullsOf_b8 : KK OO := op_loop (F_X8_pullsOf_l8)
theorem bs_X8_pullsOf_b8 : B_S M_X8_pullsOf 8 (F_X8_pullsOf_b8) z_O k_O := BS_loop (bs_X8_pullsOf_l8)
noncomputable def F_X8_pullsOf_b0 : KK OO :=
  op_ald 0 <| op_ild 1 <| op_call 2 (f_kd 25 F_X8_wonBy) kx_no <| op_ist 2 <| op_push (.int 0) <| op_ist 3 <| F_X8_pullsOf_b8
theorem bs_X8_pullsOf_b0 : B_S M_X8_pullsOf 0 (F_X8_pullsOf_b0) z_O k_O := by
  unfold F_X8_pullsOf_b0
  refine BS_aload_n dX8_pullsOf_0 rfl ?_
  refine BS_iload_n dX8_pullsOf_1 rfl ?_
  refine BS_call (run_V dX8_pullsOf_2 con_X8_wonBy (ci := 15) rfl rfl q2111 q2113 qs91 q146 q2114 pd_X8_wonBy ⟨Nat.le_of_ble_eq_true rfl, Nat.le_of_ble_eq_true rfl⟩) BV_no ?_
  refine BS_istore_n dX8_pullsOf_5 rfl (Nat.le_of_ble_eq_true rfl) ?_
  refine BS_iconst dX8_pullsOf_6 (by decide) ?_
  refine BS_istore_n dX8_pullsOf_7 rfl (Nat.le_of_ble_eq_true rfl) ?_
  exact bs_X8_pullsOf_b8
noncomputable def F_X8_pullsOf : FF := mk_F 4 F_X8_pullsOf_b0
theorem con_X8_pullsOf : Con_ yX8_pullsOf (ws_ yX8_pullsOf cX8_pullsOf 4 (some .int)) 1 23 F_X8_pullsOf := Con_of (by decide +kernel) bs_X8_pullsOf_b0
/-- LongerHalfModel.person(II)I -/
abbrev M_X8_person : MM := (yX8_person, cX8_person, (some .int), 2, 46, 3, [])
theorem pd_X8_person : (yX8_person.cls ≠ "java/lang/invoke/MethodHandle" ∧ yX8_person.cls ≠ "java/lang/invoke/VarHandle") ∧ (parseMethodDescriptor yX8_person.desc).map (fun d => d.parameters.length) = some 2 := ⟨⟨by decide +kernel, by decide +kernel⟩, by decide +kernel⟩
noncomputable def F_X8_person_b23 : KK OO :=
  op_ald 0 <| op_push (.int 1) <| op_call 2 (f_kd 25 F_X8_refused) kx_no <| op_iret .int
theorem bs_X8_person_b23 : B_S M_X8_person 23 (F_X8_person_b23) z_O k_O := by
  unfold F_X8_person_b23
  refine BS_aload_n dX8_person_23 rfl ?_
  refine BS_iconst dX8_person_24 (by decide) ?_
  refine BS_call (run_V dX8_person_25 con_X8_refused (ci := 15) rfl rfl q1749 q1751 qs58 q146 q1752 pd_X8_refused ⟨Nat.le_of_ble_eq_true rfl, Nat.le_of_ble_eq_true rfl⟩) BV_no ?_
  exact BS_ireturn dX8_person_28 rfl
noncomputable def F_X8_person_b144 : KK OO :=
  op_ald 0 <| op_ald 0 <| op_gfr [25] 114 <| op_push (.int 11) <| op_ild 1 <| op_i2 (fun x y => x + y) <| op_iald 1 <| op_call 2 (f_kd 25 F_X8_good) kx_no <| op_iret .int
theorem bs_X8_person_b144 : B_S M_X8_person 144 (F_X8_person_b144) z_O k_O := by
  unfold F_X8_person_b144
  refine BS_aload_n dX8_person_144 rfl ?_
  refine BS_aload_n dX8_person_145 rfl ?_
  refine BS_gfr f_X8_17 dX8_person_146 ?_
  refine BS_bipush dX8_person_149 (by decide) ?_
  refine BS_iload_n dX8_person_151 rfl ?_
  refine BS_iadd dX8_person_152 ?_
  refine BS_iaload dX8_person_153 ?_
  refine BS_call (run_V dX8_person_154 con_X8_good (ci := 15) rfl rfl q2063 q2065 qs86 q146 q2066 pd_X8_good ⟨Nat.le_of_ble_eq_true rfl, Nat.le_of_ble_eq_true rfl⟩) BV_no ?_
  exact BS_ireturn dX8_person_157 rfl
noncomputable def F_X8_person_b68 : KK OO :=
  op_ald 0 <| op_ald 0 <| op_gfr [25] 101 <| op_gfr [26] 153 <| op_ild 1 <| op_iald 1 <| op_call 2 (f_kd 25 F_X8_good) kx_no <| op_iret .int
theorem bs_X8_person_b68 : B_S M_X8_person 68 (F_X8_person_b68) z_O k_O := by
  unfold F_X8_person_b68
  refine BS_aload_n dX8_person_68 rfl ?_
  refine BS_aload_n dX8_person_69 rfl ?_
  refine BS_gfr f_X8_373 dX8_person_70 ?_
  refine BS_gfr f_X8_307 dX8_person_73 ?_
  refine BS_iload_n dX8_person_76 rfl ?_
  refine BS_iaload dX8_person_77 ?_
  refine BS_call (run_V dX8_person_78 con_X8_good (ci := 15) rfl rfl q2063 q2065 qs86 q146 q2066 pd_X8_good ⟨Nat.le_of_ble_eq_true rfl, Nat.le_of_ble_eq_true rfl⟩) BV_no ?_
  exact BS_ireturn dX8_person_81 rfl
noncomputable def F_X8_person_b82 : KK OO :=
  op_ald 0 <| op_ald 0 <| op_gfr [25] 101 <| op_gfr [26] 154 <| op_ild 1 <| op_iald 1 <| op_call 2 (f_kd 25 F_X8_good) kx_no <| op_iret .int
theorem bs_X8_person_b82 : B_S M_X8_person 82 (F_X8_person_b82) z_O k_O := by
  unfold F_X8_person_b82
  refine BS_aload_n dX8_person_82 rfl ?_
  refine BS_aload_n dX8_person_83 rfl ?_
  refine BS_gfr f_X8_373 dX8_person_84 ?_
  refine BS_gfr f_X8_310 dX8_person_87 ?_
  refine BS_iload_n dX8_person_90 rfl ?_
  refine BS_iaload dX8_person_91 ?_
  refine BS_call (run_V dX8_person_92 con_X8_good (ci := 15) rfl rfl q2063 q2065 qs86 q146 q2066 pd_X8_good ⟨Nat.le_of_ble_eq_true rfl, Nat.le_of_ble_eq_true rfl⟩) BV_no ?_
  exact BS_ireturn dX8_person_95 rfl
noncomputable def F_X8_person_b96 : KK OO :=
  op_ald 0 <| op_ald 0 <| op_gfr [25] 101 <| op_gfr [26] 155 <| op_ild 1 <| op_iald 1 <| op_call 2 (f_kd 25 F_X8_good) kx_no <| op_iret .int
theorem bs_X8_person_b96 : B_S M_X8_person 96 (F_X8_person_b96) z_O k_O := by
  unfold F_X8_person_b96
  refine BS_aload_n dX8_person_96 rfl ?_
  refine BS_aload_n dX8_person_97 rfl ?_
  refine BS_gfr f_X8_373 dX8_person_98 ?_
  refine BS_gfr f_X8_312 dX8_person_101 ?_
  refine BS_iload_n dX8_person_104 rfl ?_
  refine BS_iaload dX8_person_105 ?_
  refine BS_call (run_V dX8_person_106 con_X8_good (ci := 15) rfl rfl q2063 q2065 qs86 q146 q2066 pd_X8_good ⟨Nat.le_of_ble_eq_true rfl, Nat.le_of_ble_eq_true rfl⟩) BV_no ?_
  exact BS_ireturn dX8_person_109 rfl
noncomputable def F_X8_person_b110 : KK OO :=
  op_ald 0 <| op_ald 0 <| op_gfr [25] 101 <| op_gfr [26] 156 <| op_ild 1 <| op_iald 1 <| op_call 2 (f_kd 25 F_X8_good) kx_no <| op_iret .int
theorem bs_X8_person_b110 : B_S M_X8_person 110 (F_X8_person_b110) z_O k_O := by
  unfold F_X8_person_b110
  refine BS_aload_n dX8_person_110 rfl ?_
  refine BS_aload_n dX8_person_111 rfl ?_
  refine BS_gfr f_X8_373 dX8_person_112 ?_
  refine BS_gfr f_X8_314 dX8_person_115 ?_
  refine BS_iload_n dX8_person_118 rfl ?_
  refine BS_iaload dX8_person_119 ?_
  refine BS_call (run_V dX8_person_120 con_X8_good (ci := 15) rfl rfl q2063 q2065 qs86 q146 q2066 pd_X8_good ⟨Nat.le_of_ble_eq_true rfl, Nat.le_of_ble_eq_true rfl⟩) BV_no ?_
  exact BS_ireturn dX8_person_123 rfl
noncomputable def F_X8_person_b124 : KK OO :=
  op_ald 0 <| op_ald 0 <| op_ild 1 <| op_call 2 (f_kd 25 F_X8_pullsOf) kx_no <| op_call 2 (f_kd 25 F_X8_good) kx_no <| op_iret .int
theorem bs_X8_person_b124 : B_S M_X8_person 124 (F_X8_person_b124) z_O k_O := by
  unfold F_X8_person_b124
  refine BS_aload_n dX8_person_124 rfl ?_
  refine BS_aload_n dX8_person_125 rfl ?_
  refine BS_iload_n dX8_person_126 rfl ?_
  refine BS_call (run_V dX8_person_127 con_X8_pullsOf (ci := 15) rfl rfl q2107 q2109 qs90 q146 q2110 pd_X8_pullsOf ⟨Nat.le_of_ble_eq_true rfl, Nat.le_of_ble_eq_true rfl⟩) BV_no ?_
  refine BS_call (run_V dX8_person_130 con_X8_good (ci := 15) rfl rfl q2063 q2065 qs86 q146 q2066 pd_X8_good ⟨Nat.le_of_ble_eq_true rfl, Nat.le_of_ble_eq_true rfl⟩) BV_no ?_
  exact BS_ireturn dX8_person_133 rfl
noncomputable def F_X8_person_b134 : KK OO :=
  op_ald 0 <| op_ald 0 <| op_ild 1 <| op_call 2 (f_kd 25 F_X8_wonBy) kx_no <| op_call 2 (f_kd 25 F_X8_good) kx_no <| op_iret .int
theorem bs_X8_person_b134 : B_S M_X8_person 134 (F_X8_person_b134) z_O k_O := by
  unfold F_X8_person_b134
  refine BS_aload_n dX8_person_134 rfl ?_
  refine BS_aload_n dX8_person_135 rfl ?_
  refine BS_iload_n dX8_person_136 rfl ?_
  refine BS_call (run_V dX8_person_137 con_X8_wonBy (ci := 15) rfl rfl q2111 q2113 qs91 q146 q2114 pd_X8_wonBy ⟨Nat.le_of_ble_eq_true rfl, Nat.le_of_ble_eq_true rfl⟩) BV_no ?_
  refine BS_call (run_V dX8_person_140 con_X8_good (ci := 15) rfl rfl q2063 q2065 qs86 q146 q2066 pd_X8_good ⟨Nat.le_of_ble_eq_true rfl, Nat.le_of_ble_eq_true rfl⟩) BV_no ?_
  exact BS_ireturn dX8_person_143 rfl
noncomputable def F_X8_person_b0 : KK OO :=
  op_ald 0 <| op_push (.int 0) <| op_pfi .int [25] 98 <| op_ald 0 <| op_ild 1 <| op_call 2 (f_kd 25 F_X8_isPerson) kx_no <| op_ieq (F_X8_person_b23) (op_ild 2 <| op_push (.int 0) <| op_push (.int 6) <| op_call 3 F_X8_in kx_no <| op_ine (op_ild 2 <| op_sw [((0), F_X8_person_b68), ((1), F_X8_person_b82), ((2), F_X8_person_b96), ((3), F_X8_person_b110), ((4), F_X8_person_b124), ((5), F_X8_person_b134)] (F_X8_person_b144)) (F_X8_person_b23))
theorem bs_X8_person_b0 : B_S M_X8_person 0 (F_X8_person_b0) z_O k_O := by
  unfold F_X8_person_b0
  refine BS_aload_n dX8_person_0 rfl ?_
  refine BS_iconst dX8_person_1 (by decide) ?_
  refine BS_pfi p_X8_53 (fun h => by cases h) dX8_person_2 ?_
  refine BS_aload_n dX8_person_5 rfl ?_
  refine BS_iload_n dX8_person_6 rfl ?_
  refine BS_call (run_V dX8_person_7 con_X8_isPerson (ci := 15) rfl rfl q2103 q2105 qs89 q146 q2106 pd_X8_isPerson ⟨Nat.le_of_ble_eq_true rfl, Nat.le_of_ble_eq_true rfl⟩) BV_no ?_
  refine BS_if_eq (tgt := 23) dX8_person_10 (by decide) ?_ ?_
  · exact bs_X8_person_b23
  · refine BS_iload_n dX8_person_13 rfl ?_
    refine BS_iconst dX8_person_14 (by decide) ?_
    refine BS_bipush dX8_person_15 (by decide) ?_
    refine BS_call (run_S dX8_person_17 con_X8_in q1965 q1966 q146 q1967 pd_X8_in ⟨Nat.le_of_ble_eq_true rfl, Nat.le_of_ble_eq_true rfl⟩) BV_no ?_
    refine BS_if_ne (tgt := 29) dX8_person_20 (by decide) ?_ ?_
    · refine BS_iload_n dX8_person_29 rfl ?_
      refine BS_tsw dX8_person_30 (by decide) (td := 144) (by decide) ?_ ?_
      · exact bs_X8_person_b144
      · exact ⟨by decide, ⟨68, by decide, by
        exact bs_X8_person_b68⟩, ⟨by decide, ⟨82, by decide, by
        exact bs_X8_person_b82⟩, ⟨by decide, ⟨96, by decide, by
        exact bs_X8_person_b96⟩, ⟨by decide, ⟨110, by decide, by
        exact bs_X8_person_b110⟩, ⟨by decide, ⟨124, by decide, by
        exact bs_X8_person_b124⟩, ⟨by decide, ⟨134, by decide, by
        exact bs_X8_person_b134⟩, trivial⟩⟩⟩⟩⟩⟩
    · exact bs_X8_person_b23
noncomputable def F_X8_person : FF := mk_F 3 F_X8_person_b0
theorem con_X8_person : Con_ yX8_person (ws_ yX8_person cX8_person 3 (some .int)) 2 46 F_X8_person := Con_of (by decide +kernel) bs_X8_person_b0
/-- LongerHalfModel.isChild(I)Z -/
abbrev M_X8_isChild : MM := (yX8_isChild, cX8_isChild, (some .boolean), 0, 0, 2, [])
theorem pd_X8_isChild : (yX8_isChild.cls ≠ "java/lang/invoke/MethodHandle" ∧ yX8_isChild.cls ≠ "java/lang/invoke/VarHandle") ∧ (parseMethodDescriptor yX8_isChild.desc).map (fun d => d.parameters.length) = some 1 := ⟨⟨by decide +kernel, by decide +kernel⟩, by decide +kernel⟩
noncomputable def F_X8_isChild_b0 : KK OO :=
  op_ald 0 <| op_gfr [25] 101 <| op_gfr [26] 153 <| op_ild 1 <| op_iald 1 <| op_push (.int 2) <| op_cne (op_push (.int 0) <| op_iret .boolean) (op_push (.int 1) <| op_iret .boolean)
theorem bs_X8_isChild_b0 : B_S M_X8_isChild 0 (F_X8_isChild_b0) z_O k_O := by
  unfold F_X8_isChild_b0
  refine BS_aload_n dX8_isChild_0 rfl ?_
  refine BS_gfr f_X8_373 dX8_isChild_1 ?_
  refine BS_gfr f_X8_307 dX8_isChild_4 ?_
  refine BS_iload_n dX8_isChild_7 rfl ?_
  refine BS_iaload dX8_isChild_8 ?_
  refine BS_iconst dX8_isChild_9 (by decide) ?_
  refine BS_icmp_ne (tgt := 17) dX8_isChild_10 (by decide) ?_ ?_
  · refine BS_iconst dX8_isChild_17 (by decide) ?_
    exact BS_ireturn dX8_isChild_18 rfl
  · refine BS_iconst dX8_isChild_13 (by decide) ?_
    refine BS_goto (tgt := 18) dX8_isChild_14 (by decide) ?_
    exact BS_ireturn dX8_isChild_18 rfl
noncomputable def F_X8_isChild : FF := mk_F 2 F_X8_isChild_b0
theorem con_X8_isChild : Con_ yX8_isChild (ws_ yX8_isChild cX8_isChild 2 (some .boolean)) 0 0 F_X8_isChild := Con_of (by decide +kernel) bs_X8_isChild_b0
/-- LongerHalfModel.lays(IIIIII)V -/
abbrev M_X8_lays : MM := (yX8_lays, cX8_lays, none, 1, 21, 7, [])
theorem pd_X8_lays : (yX8_lays.cls ≠ "java/lang/invoke/MethodHandle" ∧ yX8_lays.cls ≠ "java/lang/invoke/VarHandle") ∧ (parseMethodDescriptor yX8_lays.desc).map (fun d => d.parameters.length) = some 6 := ⟨⟨by decide +kernel, by decide +kernel⟩, by decide +kernel⟩
noncomputable def F_X8_lays_b108 : KK OO :=
  op_iast 4 .boolean <| op_ald 0 <| op_push (.int (-1)) <| op_pfi .int [25] 121 <| op_vret
theorem bs_X8_lays_b108 : B_S M_X8_lays 108 (F_X8_lays_b108) z_O k_O := by
  unfold F_X8_lays_b108
  refine BS_zastore dX8_lays_108 ?_
  refine BS_aload_n dX8_lays_109 rfl ?_
  refine BS_iconst dX8_lays_110 (by decide) ?_
  refine BS_pfi p_X8_389 (fun h => by cases h) dX8_lays_111 ?_
  exact BS_return dX8_lays_114 rfl
noncomputable def F_X8_lays_b103 : KK OO :=
  op_push (.int 1) <| F_X8_lays_b108
theorem bs_X8_lays_b103 : B_S M_X8_lays 103 (F_X8_lays_b103) z_O k_O := by
  unfold F_X8_lays_b103
  refine BS_iconst dX8_lays_103 (by decide) ?_
  refine BS_goto (tgt := 108) dX8_lays_104 (by decide) ?_
  exact bs_X8_lays_b108
noncomputable def F_X8_lays_b76 : KK OO :=
  op_iast 4 .boolean <| op_ald 0 <| op_gfr [25] 127 <| op_push (.int 1) <| op_ild 6 <| op_push (.int 1) <| op_ceq (F_X8_lays_b103) (op_ild 6 <| op_push (.int 3) <| op_ceq (F_X8_lays_b103) (op_ald 0 <| op_ild 4 <| op_call 2 (f_kd 25 F_X8_isChild) kx_no <| op_ieq (op_push (.int 0) <| F_X8_lays_b108) (F_X8_lays_b103)))
theorem bs_X8_lays_b76 : B_S M_X8_lays 76 (F_X8_lays_b76) z_O k_O := by
  unfold F_X8_lays_b76
  refine BS_zastore dX8_lays_76 ?_
  refine BS_aload_n dX8_lays_77 rfl ?_
  refine BS_gfr f_X8_33 dX8_lays_78 ?_
  refine BS_iconst dX8_lays_81 (by decide) ?_
  refine BS_iload dX8_lays_82 ?_
  refine BS_iconst dX8_lays_84 (by decide) ?_
  refine BS_icmp_eq (tgt := 103) dX8_lays_85 (by decide) ?_ ?_
  · exact bs_X8_lays_b103
  · refine BS_iload dX8_lays_88 ?_
    refine BS_iconst dX8_lays_90 (by decide) ?_
    refine BS_icmp_eq (tgt := 103) dX8_lays_91 (by decide) ?_ ?_
    · exact bs_X8_lays_b103
    · refine BS_aload_n dX8_lays_94 rfl ?_
      refine BS_iload dX8_lays_95 ?_
      refine BS_call (run_V dX8_lays_97 con_X8_isChild (ci := 15) rfl rfl q2123 q2125 qs93 q146 q2126 pd_X8_isChild ⟨Nat.le_of_ble_eq_true rfl, Nat.le_of_ble_eq_true rfl⟩) BV_no ?_
      refine BS_if_eq (tgt := 107) dX8_lays_100 (by decide) ?_ ?_
      · refine BS_iconst dX8_lays_107 (by decide) ?_
        exact bs_X8_lays_b108
      · exact bs_X8_lays_b103
noncomputable def F_X8_lays_b71 : KK OO :=
  op_push (.int 1) <| F_X8_lays_b76
theorem bs_X8_lays_b71 : B_S M_X8_lays 71 (F_X8_lays_b71) z_O k_O := by
  unfold F_X8_lays_b71
  refine BS_iconst dX8_lays_71 (by decide) ?_
  refine BS_goto (tgt := 76) dX8_lays_72 (by decide) ?_
  exact bs_X8_lays_b76
noncomputable def F_X8_lays_b0 : KK OO :=
  op_ald 0 <| op_ild 1 <| op_pfi .int [25] 119 <| op_ald 0 <| op_ald 0 <| op_gfr [25] 114 <| op_push (.int 5) <| op_ild 1 <| op_i2 (fun x y => x + y) <| op_iald 1 <| op_pfi .int [25] 120 <| op_ald 0 <| op_gfr [25] 125 <| op_push (.int 0) <| op_ild 2 <| op_iast 1 .int <| op_ald 0 <| op_gfr [25] 125 <| op_push (.int 1) <| op_ild 4 <| op_iast 1 .int <| op_ald 0 <| op_gfr [25] 126 <| op_push (.int 0) <| op_ild 3 <| op_iast 1 .int <| op_ald 0 <| op_gfr [25] 126 <| op_push (.int 1) <| op_ild 5 <| op_iast 1 .int <| op_ald 0 <| op_gfr [25] 127 <| op_push (.int 0) <| op_ild 6 <| op_ieq (F_X8_lays_b71) (op_ild 6 <| op_push (.int 3) <| op_ceq (F_X8_lays_b71) (op_ald 0 <| op_ild 2 <| op_call 2 (f_kd 25 F_X8_isChild) kx_no <| op_ieq (op_push (.int 0) <| F_X8_lays_b76) (F_X8_lays_b71)))
theorem bs_X8_lays_b0 : B_S M_X8_lays 0 (F_X8_lays_b0) z_O k_O := by
  unfold F_X8_lays_b0
  refine BS_aload_n dX8_lays_0 rfl ?_
  refine BS_iload_n dX8_lays_1 rfl ?_
  refine BS_pfi p_X8_381 (fun h => by cases h) dX8_lays_2 ?_
  refine BS_aload_n dX8_lays_5 rfl ?_
  refine BS_aload_n dX8_lays_6 rfl ?_
  refine BS_gfr f_X8_17 dX8_lays_7 ?_
  refine BS_iconst dX8_lays_10 (by decide) ?_
  refine BS_iload_n dX8_lays_11 rfl ?_
  refine BS_iadd dX8_lays_12 ?_
  refine BS_iaload dX8_lays_13 ?_
  refine BS_pfi p_X8_383 (fun h => by cases h) dX8_lays_14 ?_
  refine BS_aload_n dX8_lays_17 rfl ?_
  refine BS_gfr f_X8_27 dX8_lays_18 ?_
  refine BS_iconst dX8_lays_21 (by decide) ?_
  refine BS_iload_n dX8_lays_22 rfl ?_
  refine BS_iastore dX8_lays_23 ?_
  refine BS_aload_n dX8_lays_24 rfl ?_
  refine BS_gfr f_X8_27 dX8_lays_25 ?_
  refine BS_iconst dX8_lays_28 (by decide) ?_
  refine BS_iload dX8_lays_29 ?_
  refine BS_iastore dX8_lays_31 ?_
  refine BS_aload_n dX8_lays_32 rfl ?_
  refine BS_gfr f_X8_30 dX8_lays_33 ?_
  refine BS_iconst dX8_lays_36 (by decide) ?_
  refine BS_iload_n dX8_lays_37 rfl ?_
  refine BS_iastore dX8_lays_38 ?_
  refine BS_aload_n dX8_lays_39 rfl ?_
  refine BS_gfr f_X8_30 dX8_lays_40 ?_
  refine BS_iconst dX8_lays_43 (by decide) ?_
  refine BS_iload dX8_lays_44 ?_
  refine BS_iastore dX8_lays_46 ?_
  refine BS_aload_n dX8_lays_47 rfl ?_
  refine BS_gfr f_X8_33 dX8_lays_48 ?_
  refine BS_iconst dX8_lays_51 (by decide) ?_
  refine BS_iload dX8_lays_52 ?_
  refine BS_if_eq (tgt := 71) dX8_lays_54 (by decide) ?_ ?_
  · exact bs_X8_lays_b71
  · refine BS_iload dX8_lays_57 ?_
    refine BS_iconst dX8_lays_59 (by decide) ?_
    refine BS_icmp_eq (tgt := 71) dX8_lays_60 (by decide) ?_ ?_
    · exact bs_X8_lays_b71
    · refine BS_aload_n dX8_lays_63 rfl ?_
      refine BS_iload_n dX8_lays_64 rfl ?_
      refine BS_call (run_V dX8_lays_65 con_X8_isChild (ci := 15) rfl rfl q2123 q2125 qs93 q146 q2126 pd_X8_isChild ⟨Nat.le_of_ble_eq_true rfl, Nat.le_of_ble_eq_true rfl⟩) BV_no ?_
      refine BS_if_eq (tgt := 75) dX8_lays_68 (by decide) ?_ ?_
      · refine BS_iconst dX8_lays_75 (by decide) ?_
        exact bs_X8_lays_b76
      · exact bs_X8_lays_b71
noncomputable def F_X8_lays : FF := mk_F 7 F_X8_lays_b0
theorem con_X8_lays : Con_ yX8_lays (ws_ yX8_lays cX8_lays 7 none) 1 21 F_X8_lays := Con_of (by decide +kernel) bs_X8_lays_b0
/-- LongerHalfModel.strengthAt(II)I -/
abbrev M_X8_strengthAt : MM := (yX8_strengthAt, cX8_strengthAt, (some .int), 1, 23, 4, [])
theorem pd_X8_strengthAt : (yX8_strengthAt.cls ≠ "java/lang/invoke/MethodHandle" ∧ yX8_strengthAt.cls ≠ "java/lang/invoke/VarHandle") ∧ (parseMethodDescriptor yX8_strengthAt.desc).map (fun d => d.parameters.length) = some 2 := ⟨⟨by decide +kernel, by decide +kernel⟩, by decide +kernel⟩
noncomputable def F_X8_strengthAt_b60 : KK OO :=
  op_i2 (fun x y => x + y) <| op_ist 3 <| op_ild 1 <| op_ald 0 <| op_gfi [25] 121 <| op_cne (op_ild 3 <| op_iret .int) (op_ild 2 <| op_ald 0 <| op_gfi [25] 122 <| op_cne (op_ild 3 <| op_iret .int) (op_ild 3 <| op_push (.int 2) <| op_i2d (fun x y => x / y) <| op_iret .int))
theorem bs_X8_strengthAt_b60 : B_S M_X8_strengthAt 60 (F_X8_strengthAt_b60) z_O k_O := by
  unfold F_X8_strengthAt_b60
  refine BS_iadd dX8_strengthAt_60 ?_
  refine BS_istore_n dX8_strengthAt_61 rfl (Nat.le_of_ble_eq_true rfl) ?_
  refine BS_iload_n dX8_strengthAt_62 rfl ?_
  refine BS_aload_n dX8_strengthAt_63 rfl ?_
  refine BS_gfi f_X8_389 dX8_strengthAt_64 ?_
  refine BS_icmp_ne (tgt := 84) dX8_strengthAt_67 (by decide) ?_ ?_
  · refine BS_iload_n dX8_strengthAt_84 rfl ?_
    exact BS_ireturn dX8_strengthAt_85 rfl
  · refine BS_iload_n dX8_strengthAt_70 rfl ?_
    refine BS_aload_n dX8_strengthAt_71 rfl ?_
    refine BS_gfi f_X8_403 dX8_strengthAt_72 ?_
    refine BS_icmp_ne (tgt := 84) dX8_strengthAt_75 (by decide) ?_ ?_
    · refine BS_iload_n dX8_strengthAt_84 rfl ?_
      exact BS_ireturn dX8_strengthAt_85 rfl
    · refine BS_iload_n dX8_strengthAt_78 rfl ?_
      refine BS_iconst dX8_strengthAt_79 (by decide) ?_
      refine BS_idiv dX8_strengthAt_80 ?_
      refine BS_goto (tgt := 85) dX8_strengthAt_81 (by decide) ?_
      exact BS_ireturn dX8_strengthAt_85 rfl
noncomputable def F_X8_strengthAt_b59 : KK OO :=
  op_push (.int 0) <| F_X8_strengthAt_b60
theorem bs_X8_strengthAt_b59 : B_S M_X8_strengthAt 59 (F_X8_strengthAt_b59) z_O k_O := by
  unfold F_X8_strengthAt_b59
  refine BS_iconst dX8_strengthAt_59 (by decide) ?_
  exact bs_X8_strengthAt_b60
noncomputable def F_X8_strengthAt_b0 : KK OO :=
  op_ald 0 <| op_gfr [25] 101 <| op_ald 0 <| op_gfi [25] 119 <| op_ild 1 <| op_ild 2 <| op_call 4 (f_kd 26 F_X20_thickAt) kx_no <| op_ald 0 <| op_gfr [25] 101 <| op_gfi [26] 138 <| op_ald 0 <| op_gfi [25] 120 <| op_i2 (fun x y => x - y) <| op_i2 (fun x y => x * y) <| op_ild 2 <| op_push (.int 2) <| op_cge (F_X8_strengthAt_b59) (op_ald 0 <| op_gfr [25] 101 <| op_gfr [26] 153 <| op_ald 0 <| op_gfr [25] 125 <| op_ild 1 <| op_iald 1 <| op_iald 1 <| op_push (.int 3) <| op_cne (F_X8_strengthAt_b59) (op_ald 0 <| op_gfr [25] 101 <| op_gfi [26] 140 <| F_X8_strengthAt_b60))
theorem bs_X8_strengthAt_b0 : B_S M_X8_strengthAt 0 (F_X8_strengthAt_b0) z_O k_O := by
  unfold F_X8_strengthAt_b0
  refine BS_aload_n dX8_strengthAt_0 rfl ?_
  refine BS_gfr f_X8_373 dX8_strengthAt_1 ?_
  refine BS_aload_n dX8_strengthAt_4 rfl ?_
  refine BS_gfi f_X8_381 dX8_strengthAt_5 ?_
  refine BS_iload_n dX8_strengthAt_8 rfl ?_
  refine BS_iload_n dX8_strengthAt_9 rfl ?_
  refine BS_call (run_V dX8_strengthAt_10 con_X20_thickAt (ci := 16) rfl rfl q2095 q2096 q2097 q163 q2098 pd_X20_thickAt ⟨Nat.le_of_ble_eq_true rfl, Nat.le_of_ble_eq_true rfl⟩) BV_no ?_
  refine BS_aload_n dX8_strengthAt_13 rfl ?_
  refine BS_gfr f_X8_373 dX8_strengthAt_14 ?_
  refine BS_gfi f_X8_252 dX8_strengthAt_17 ?_
  refine BS_aload_n dX8_strengthAt_20 rfl ?_
  refine BS_gfi f_X8_383 dX8_strengthAt_21 ?_
  refine BS_isub dX8_strengthAt_24 ?_
  refine BS_imul dX8_strengthAt_25 ?_
  refine BS_iload_n dX8_strengthAt_26 rfl ?_
  refine BS_iconst dX8_strengthAt_27 (by decide) ?_
  refine BS_icmp_ge (tgt := 59) dX8_strengthAt_28 (by decide) ?_ ?_
  · exact bs_X8_strengthAt_b59
  · refine BS_aload_n dX8_strengthAt_31 rfl ?_
    refine BS_gfr f_X8_373 dX8_strengthAt_32 ?_
    refine BS_gfr f_X8_307 dX8_strengthAt_35 ?_
    refine BS_aload_n dX8_strengthAt_38 rfl ?_
    refine BS_gfr f_X8_27 dX8_strengthAt_39 ?_
    refine BS_iload_n dX8_strengthAt_42 rfl ?_
    refine BS_iaload dX8_strengthAt_43 ?_
    refine BS_iaload dX8_strengthAt_44 ?_
    refine BS_iconst dX8_strengthAt_45 (by decide) ?_
    refine BS_icmp_ne (tgt := 59) dX8_strengthAt_46 (by decide) ?_ ?_
    · exact bs_X8_strengthAt_b59
    · refine BS_aload_n dX8_strengthAt_49 rfl ?_
      refine BS_gfr f_X8_373 dX8_strengthAt_50 ?_
      refine BS_gfi f_X8_256 dX8_strengthAt_53 ?_
      refine BS_goto (tgt := 60) dX8_strengthAt_56 (by decide) ?_
      exact bs_X8_strengthAt_b60
noncomputable def F_X8_strengthAt : FF := mk_F 4 F_X8_strengthAt_b0
theorem con_X8_strengthAt : Con_ yX8_strengthAt (ws_ yX8_strengthAt cX8_strengthAt 4 (some .int)) 1 23 F_X8_strengthAt := Con_of (by decide +kernel) bs_X8_strengthAt_b0
/-- LongerHalfModel.strength(IIII)I -/
abbrev M_X8_strength : MM := (yX8_strength, cX8_strength, (some .int), 2, 47, 5, [])
theorem pd_X8_strength : (yX8_strength.cls ≠ "java/lang/invoke/MethodHandle" ∧ yX8_strength.cls ≠ "java/lang/invoke/VarHandle") ∧ (parseMethodDescriptor yX8_strength.desc).map (fun d => d.parameters.length) = some 4 := ⟨⟨by decide +kernel, by decide +kernel⟩, by decide +kernel⟩
noncomputable def F_X8_strength_b24 : KK OO :=
  op_ald 0 <| op_push (.int 1) <| op_call 2 (f_kd 25 F_X8_refused) kx_no <| op_iret .int
theorem bs_X8_strength_b24 : B_S M_X8_strength 24 (F_X8_strength_b24) z_O k_O := by
  unfold F_X8_strength_b24
  refine BS_aload_n dX8_strength_24 rfl ?_
  refine BS_iconst dX8_strength_25 (by decide) ?_
  refine BS_call (run_V dX8_strength_26 con_X8_refused (ci := 15) rfl rfl q1749 q1751 qs58 q146 q1752 pd_X8_refused ⟨Nat.le_of_ble_eq_true rfl, Nat.le_of_ble_eq_true rfl⟩) BV_no ?_
  exact BS_ireturn dX8_strength_29 rfl
noncomputable def F_X8_strength_b0 : KK OO :=
  op_ald 0 <| op_push (.int 0) <| op_pfi .int [25] 98 <| op_ald 0 <| op_ild 1 <| op_ild 2 <| op_ild 3 <| op_call 4 (f_kd 25 F_X8_isPlace) kx_no <| op_ieq (F_X8_strength_b24) (op_ald 0 <| op_ild 4 <| op_call 2 (f_kd 25 F_X8_isPerson) kx_no <| op_ine (op_ald 0 <| op_ild 1 <| op_ild 4 <| op_push (.int 1) <| op_ild 4 <| op_push (.int 1) <| op_push (.int 2) <| op_call 7 (f_kd 25 F_X8_lays) kx_no <| op_ald 0 <| op_ald 0 <| op_ild 2 <| op_ild 3 <| op_call 3 (f_kd 25 F_X8_strengthAt) kx_no <| op_call 2 (f_kd 25 F_X8_good) kx_no <| op_iret .int) (F_X8_strength_b24))
theorem bs_X8_strength_b0 : B_S M_X8_strength 0 (F_X8_strength_b0) z_O k_O := by
  unfold F_X8_strength_b0
  refine BS_aload_n dX8_strength_0 rfl ?_
  refine BS_iconst dX8_strength_1 (by decide) ?_
  refine BS_pfi p_X8_53 (fun h => by cases h) dX8_strength_2 ?_
  refine BS_aload_n dX8_strength_5 rfl ?_
  refine BS_iload_n dX8_strength_6 rfl ?_
  refine BS_iload_n dX8_strength_7 rfl ?_
  refine BS_iload_n dX8_strength_8 rfl ?_
  refine BS_call (run_V dX8_strength_9 con_X8_isPlace (ci := 15) rfl rfl q2091 q2093 qs88 q146 q2094 pd_X8_isPlace ⟨Nat.le_of_ble_eq_true rfl, Nat.le_of_ble_eq_true rfl⟩) BV_no ?_
  refine BS_if_eq (tgt := 24) dX8_strength_12 (by decide) ?_ ?_
  · exact bs_X8_strength_b24
  · refine BS_aload_n dX8_strength_15 rfl ?_
    refine BS_iload dX8_strength_16 ?_
    refine BS_call (run_V dX8_strength_18 con_X8_isPerson (ci := 15) rfl rfl q2103 q2105 qs89 q146 q2106 pd_X8_isPerson ⟨Nat.le_of_ble_eq_true rfl, Nat.le_of_ble_eq_true rfl⟩) BV_no ?_
    refine BS_if_ne (tgt := 30) dX8_strength_21 (by decide) ?_ ?_
    · refine BS_aload_n dX8_strength_30 rfl ?_
      refine BS_iload_n dX8_strength_31 rfl ?_
      refine BS_iload dX8_strength_32 ?_
      refine BS_iconst dX8_strength_34 (by decide) ?_
      refine BS_iload dX8_strength_35 ?_
      refine BS_iconst dX8_strength_37 (by decide) ?_
      refine BS_iconst dX8_strength_38 (by decide) ?_
      refine BS_call (run_V dX8_strength_39 con_X8_lays (ci := 15) rfl rfl q2119 q2121 qs92 q146 q2122 pd_X8_lays ⟨Nat.le_of_ble_eq_true rfl, Nat.le_of_ble_eq_true rfl⟩) BV_no ?_
      refine BS_aload_n dX8_strength_42 rfl ?_
      refine BS_aload_n dX8_strength_43 rfl ?_
      refine BS_iload_n dX8_strength_44 rfl ?_
      refine BS_iload_n dX8_strength_45 rfl ?_
      refine BS_call (run_V dX8_strength_46 con_X8_strengthAt (ci := 15) rfl rfl q2127 q2129 qs94 q146 q2130 pd_X8_strengthAt ⟨Nat.le_of_ble_eq_true rfl, Nat.le_of_ble_eq_true rfl⟩) BV_no ?_
      refine BS_call (run_V dX8_strength_49 con_X8_good (ci := 15) rfl rfl q2063 q2065 qs86 q146 q2066 pd_X8_good ⟨Nat.le_of_ble_eq_true rfl, Nat.le_of_ble_eq_true rfl⟩) BV_no ?_
      exact BS_ireturn dX8_strength_52 rfl
    · exact bs_X8_strength_b24
noncomputable def F_X8_strength : FF := mk_F 5 F_X8_strength_b0
theorem con_X8_strength : Con_ yX8_strength (ws_ yX8_strength cX8_strength 5 (some .int)) 2 47 F_X8_strength := Con_of (by decide +kernel) bs_X8_strength_b0
/-- LongerHalfModel.isPair(II)Z -/
abbrev M_X8_isPair : MM := (yX8_isPair, cX8_isPair, (some .boolean), 1, 21, 3, [])
theorem pd_X8_isPair : (yX8_isPair.cls ≠ "java/lang/invoke/MethodHandle" ∧ yX8_isPair.cls ≠ "java/lang/invoke/VarHandle") ∧ (parseMethodDescriptor yX8_isPair.desc).map (fun d => d.parameters.length) = some 2 := ⟨⟨by decide +kernel, by decide +kernel⟩, by decide +kernel⟩
noncomputable def F_X8_isPair_b0 : KK OO :=
  op_ald 0 <| op_ild 1 <| op_call 2 (f_kd 25 F_X8_isPerson) kx_no <| op_ieq (op_push (.int 0) <| op_iret .boolean) (op_ald 0 <| op_ild 2 <| op_call 2 (f_kd 25 F_X8_isPerson) kx_no <| op_ieq (op_push (.int 0) <| op_iret .boolean) (op_ild 1 <| op_ild 2 <| op_ceq (op_push (.int 0) <| op_iret .boolean) (op_push (.int 1) <| op_iret .boolean)))
theorem bs_X8_isPair_b0 : B_S M_X8_isPair 0 (F_X8_isPair_b0) z_O k_O := by
  unfold F_X8_isPair_b0
  refine BS_aload_n dX8_isPair_0 rfl ?_
  refine BS_iload_n dX8_isPair_1 rfl ?_
  refine BS_call (run_V dX8_isPair_2 con_X8_isPerson (ci := 15) rfl rfl q2103 q2105 qs89 q146 q2106 pd_X8_isPerson ⟨Nat.le_of_ble_eq_true rfl, Nat.le_of_ble_eq_true rfl⟩) BV_no ?_
  refine BS_if_eq (tgt := 25) dX8_isPair_5 (by decide) ?_ ?_
  · refine BS_iconst dX8_isPair_25 (by decide) ?_
    exact BS_ireturn dX8_isPair_26 rfl
  · refine BS_aload_n dX8_isPair_8 rfl ?_
    refine BS_iload_n dX8_isPair_9 rfl ?_
    refine BS_call (run_V dX8_isPair_10 con_X8_isPerson (ci := 15) rfl rfl q2103 q2105 qs89 q146 q2106 pd_X8_isPerson ⟨Nat.le_of_ble_eq_true rfl, Nat.le_of_ble_eq_true rfl⟩) BV_no ?_
    refine BS_if_eq (tgt := 25) dX8_isPair_13 (by decide) ?_ ?_
    · refine BS_iconst dX8_isPair_25 (by decide) ?_
      exact BS_ireturn dX8_isPair_26 rfl
    · refine BS_iload_n dX8_isPair_16 rfl ?_
      refine BS_iload_n dX8_isPair_17 rfl ?_
      refine BS_icmp_eq (tgt := 25) dX8_isPair_18 (by decide) ?_ ?_
      · refine BS_iconst dX8_isPair_25 (by decide) ?_
        exact BS_ireturn dX8_isPair_26 rfl
      · refine BS_iconst dX8_isPair_21 (by decide) ?_
        refine BS_goto (tgt := 26) dX8_isPair_22 (by decide) ?_
        exact BS_ireturn dX8_isPair_26 rfl
noncomputable def F_X8_isPair : FF := mk_F 3 F_X8_isPair_b0
theorem con_X8_isPair : Con_ yX8_isPair (ws_ yX8_isPair cX8_isPair 3 (some .boolean)) 1 21 F_X8_isPair := Con_of (by decide +kernel) bs_X8_isPair_b0
/-- LongerHalfModel.refusesPull(ZIIII)I -/
abbrev M_X8_refusesPull : MM := (yX8_refusesPull, cX8_refusesPull, (some .int), 1, 22, 6, [])
theorem pd_X8_refusesPull : (yX8_refusesPull.cls ≠ "java/lang/invoke/MethodHandle" ∧ yX8_refusesPull.cls ≠ "java/lang/invoke/VarHandle") ∧ (parseMethodDescriptor yX8_refusesPull.desc).map (fun d => d.parameters.length) = some 5 := ⟨⟨by decide +kernel, by decide +kernel⟩, by decide +kernel⟩
noncomputable def F_X8_refusesPull_b0 : KK OO :=
  op_ild 1 <| op_ine (op_ild 3 <| op_push (.int 1) <| op_ald 0 <| op_gfr [25] 101 <| op_ild 2 <| op_push (.int 0) <| op_call 3 (f_kd 26 F_X20_many) kx_no <| op_call 3 F_X8_in kx_no <| op_ieq (op_push (.int 2) <| op_iret .int) (op_ild 4 <| op_push (.int 1) <| op_ald 0 <| op_gfr [25] 101 <| op_ild 2 <| op_push (.int 1) <| op_call 3 (f_kd 26 F_X20_many) kx_no <| op_call 3 F_X8_in kx_no <| op_ieq (op_push (.int 2) <| op_iret .int) (op_ild 5 <| op_push (.int 0) <| op_push (.int 3) <| op_call 3 F_X8_in kx_no <| op_ieq (op_push (.int 2) <| op_iret .int) (op_push (.int 0) <| op_iret .int)))) (op_push (.int 1) <| op_iret .int)
theorem bs_X8_refusesPull_b0 : B_S M_X8_refusesPull 0 (F_X8_refusesPull_b0) z_O k_O := by
  unfold F_X8_refusesPull_b0
  refine BS_iload_n dX8_refusesPull_0 rfl ?_
  refine BS_if_ne (tgt := 6) dX8_refusesPull_1 (by decide) ?_ ?_
  · refine BS_iload_n dX8_refusesPull_6 rfl ?_
    refine BS_iconst dX8_refusesPull_7 (by decide) ?_
    refine BS_aload_n dX8_refusesPull_8 rfl ?_
    refine BS_gfr f_X8_373 dX8_refusesPull_9 ?_
    refine BS_iload_n dX8_refusesPull_12 rfl ?_
    refine BS_iconst dX8_refusesPull_13 (by decide) ?_
    refine BS_call (run_V dX8_refusesPull_14 con_X20_many (ci := 16) rfl rfl q2083 q2084 q2085 q163 q2086 pd_X20_many ⟨Nat.le_of_ble_eq_true rfl, Nat.le_of_ble_eq_true rfl⟩) BV_no ?_
    refine BS_call (run_S dX8_refusesPull_17 con_X8_in q1965 q1966 q146 q1967 pd_X8_in ⟨Nat.le_of_ble_eq_true rfl, Nat.le_of_ble_eq_true rfl⟩) BV_no ?_
    refine BS_if_eq (tgt := 55) dX8_refusesPull_20 (by decide) ?_ ?_
    · refine BS_iconst dX8_refusesPull_55 (by decide) ?_
      exact BS_ireturn dX8_refusesPull_56 rfl
    · refine BS_iload dX8_refusesPull_23 ?_
      refine BS_iconst dX8_refusesPull_25 (by decide) ?_
      refine BS_aload_n dX8_refusesPull_26 rfl ?_
      refine BS_gfr f_X8_373 dX8_refusesPull_27 ?_
      refine BS_iload_n dX8_refusesPull_30 rfl ?_
      refine BS_iconst dX8_refusesPull_31 (by decide) ?_
      refine BS_call (run_V dX8_refusesPull_32 con_X20_many (ci := 16) rfl rfl q2083 q2084 q2085 q163 q2086 pd_X20_many ⟨Nat.le_of_ble_eq_true rfl, Nat.le_of_ble_eq_true rfl⟩) BV_no ?_
      refine BS_call (run_S dX8_refusesPull_35 con_X8_in q1965 q1966 q146 q1967 pd_X8_in ⟨Nat.le_of_ble_eq_true rfl, Nat.le_of_ble_eq_true rfl⟩) BV_no ?_
      refine BS_if_eq (tgt := 55) dX8_refusesPull_38 (by decide) ?_ ?_
      · refine BS_iconst dX8_refusesPull_55 (by decide) ?_
        exact BS_ireturn dX8_refusesPull_56 rfl
      · refine BS_iload dX8_refusesPull_41 ?_
        refine BS_iconst dX8_refusesPull_43 (by decide) ?_
        refine BS_iconst dX8_refusesPull_44 (by decide) ?_
        refine BS_call (run_S dX8_refusesPull_45 con_X8_in q1965 q1966 q146 q1967 pd_X8_in ⟨Nat.le_of_ble_eq_true rfl, Nat.le_of_ble_eq_true rfl⟩) BV_no ?_
        refine BS_if_eq (tgt := 55) dX8_refusesPull_48 (by decide) ?_ ?_
        · refine BS_iconst dX8_refusesPull_55 (by decide) ?_
          exact BS_ireturn dX8_refusesPull_56 rfl
        · refine BS_iconst dX8_refusesPull_51 (by decide) ?_
          refine BS_goto (tgt := 56) dX8_refusesPull_52 (by decide) ?_
          exact BS_ireturn dX8_refusesPull_56 rfl
  · refine BS_iconst dX8_refusesPull_4 (by decide) ?_
    exact BS_ireturn dX8_refusesPull_5 rfl
noncomputable def F_X8_refusesPull : FF := mk_F 6 F_X8_refusesPull_b0
theorem con_X8_refusesPull : Con_ yX8_refusesPull (ws_ yX8_refusesPull cX8_refusesPull 6 (some .int)) 1 22 F_X8_refusesPull := Con_of (by decide +kernel) bs_X8_refusesPull_b0
/-- LongerHalfModel.strainAt(II)I -/
abbrev M_X8_strainAt : MM := (yX8_strainAt, cX8_strainAt, (some .int), 0, 0, 3, [])
theorem pd_X8_strainAt : (yX8_strainAt.cls ≠ "java/lang/invoke/MethodHandle" ∧ yX8_strainAt.cls ≠ "java/lang/invoke/VarHandle") ∧ (parseMethodDescriptor yX8_strainAt.desc).map (fun d => d.parameters.length) = some 2 := ⟨⟨by decide +kernel, by decide +kernel⟩, by decide +kernel⟩
noncomputable def F_X8_strainAt_b0 : KK OO :=
  op_ild 2 <| op_ald 0 <| op_gfr [25] 126 <| op_ild 1 <| op_iald 1 <| op_clt (op_ald 0 <| op_gfr [25] 101 <| op_gfr [26] 154 <| op_ald 0 <| op_gfr [25] 125 <| op_push (.int 0) <| op_iald 1 <| op_iald 1 <| op_ald 0 <| op_gfr [25] 101 <| op_gfr [26] 154 <| op_ald 0 <| op_gfr [25] 125 <| op_push (.int 1) <| op_iald 1 <| op_iald 1 <| op_i2 (fun x y => x + y) <| op_ald 0 <| op_gfr [25] 126 <| op_ild 1 <| op_iald 1 <| op_ild 2 <| op_i2 (fun x y => x - y) <| op_i2 (fun x y => x * y) <| op_ald 0 <| op_gfr [25] 127 <| op_ild 1 <| op_iald 4 <| op_ieq (op_push (.int 0) <| op_i2 (fun x y => x + y) <| op_iret .int) (op_ald 0 <| op_gfr [25] 101 <| op_gfi [26] 139 <| op_i2 (fun x y => x + y) <| op_iret .int)) (op_push (.int 0) <| op_iret .int)
theorem bs_X8_strainAt_b0 : B_S M_X8_strainAt 0 (F_X8_strainAt_b0) z_O k_O := by
  unfold F_X8_strainAt_b0
  refine BS_iload_n dX8_strainAt_0 rfl ?_
  refine BS_aload_n dX8_strainAt_1 rfl ?_
  refine BS_gfr f_X8_30 dX8_strainAt_2 ?_
  refine BS_iload_n dX8_strainAt_5 rfl ?_
  refine BS_iaload dX8_strainAt_6 ?_
  refine BS_icmp_lt (tgt := 12) dX8_strainAt_7 (by decide) ?_ ?_
  · refine BS_aload_n dX8_strainAt_12 rfl ?_
    refine BS_gfr f_X8_373 dX8_strainAt_13 ?_
    refine BS_gfr f_X8_310 dX8_strainAt_16 ?_
    refine BS_aload_n dX8_strainAt_19 rfl ?_
    refine BS_gfr f_X8_27 dX8_strainAt_20 ?_
    refine BS_iconst dX8_strainAt_23 (by decide) ?_
    refine BS_iaload dX8_strainAt_24 ?_
    refine BS_iaload dX8_strainAt_25 ?_
    refine BS_aload_n dX8_strainAt_26 rfl ?_
    refine BS_gfr f_X8_373 dX8_strainAt_27 ?_
    refine BS_gfr f_X8_310 dX8_strainAt_30 ?_
    refine BS_aload_n dX8_strainAt_33 rfl ?_
    refine BS_gfr f_X8_27 dX8_strainAt_34 ?_
    refine BS_iconst dX8_strainAt_37 (by decide) ?_
    refine BS_iaload dX8_strainAt_38 ?_
    refine BS_iaload dX8_strainAt_39 ?_
    refine BS_iadd dX8_strainAt_40 ?_
    refine BS_aload_n dX8_strainAt_41 rfl ?_
    refine BS_gfr f_X8_30 dX8_strainAt_42 ?_
    refine BS_iload_n dX8_strainAt_45 rfl ?_
    refine BS_iaload dX8_strainAt_46 ?_
    refine BS_iload_n dX8_strainAt_47 rfl ?_
    refine BS_isub dX8_strainAt_48 ?_
    refine BS_imul dX8_strainAt_49 ?_
    refine BS_aload_n dX8_strainAt_50 rfl ?_
    refine BS_gfr f_X8_33 dX8_strainAt_51 ?_
    refine BS_iload_n dX8_strainAt_54 rfl ?_
    refine BS_zaload dX8_strainAt_55 ?_
    refine BS_if_eq (tgt := 69) dX8_strainAt_56 (by decide) ?_ ?_
    · refine BS_iconst dX8_strainAt_69 (by decide) ?_
      refine BS_iadd dX8_strainAt_70 ?_
      exact BS_ireturn dX8_strainAt_71 rfl
    · refine BS_aload_n dX8_strainAt_59 rfl ?_
      refine BS_gfr f_X8_373 dX8_strainAt_60 ?_
      refine BS_gfi f_X8_254 dX8_strainAt_63 ?_
      refine BS_goto (tgt := 70) dX8_strainAt_66 (by decide) ?_
      refine BS_iadd dX8_strainAt_70 ?_
      exact BS_ireturn dX8_strainAt_71 rfl
  · refine BS_iconst dX8_strainAt_10 (by decide) ?_
    exact BS_ireturn dX8_strainAt_11 rfl
noncomputable def F_X8_strainAt : FF := mk_F 3 F_X8_strainAt_b0
theorem con_X8_strainAt : Con_ yX8_strainAt (ws_ yX8_strainAt cX8_strainAt 3 (some .int)) 0 0 F_X8_strainAt := Con_of (by decide +kernel) bs_X8_strainAt_b0
