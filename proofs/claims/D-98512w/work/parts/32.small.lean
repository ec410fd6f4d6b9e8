/-! printed by emit.py: the functions that the methods compute, and their contracts -/
set_option maxRecDepth 100000
theorem pu_Bo_isRubber : (("LongerHalf$Bone" : String) ≠ "java/lang/invoke/MethodHandle" ∧ ("LongerHalf$Bone" : String) ≠ "java/lang/invoke/VarHandle") ∧ (parseMethodDescriptor "()Z").map (fun d => d.parameters.length) = some 0 := ⟨⟨by decide +kernel, by decide +kernel⟩, by decide +kernel⟩
theorem pu_Pe_presses : (("LongerHalf$Person" : String) ≠ "java/lang/invoke/MethodHandle" ∧ ("LongerHalf$Person" : String) ≠ "java/lang/invoke/VarHandle") ∧ (parseMethodDescriptor "()Z").map (fun d => d.parameters.length) = some 0 := ⟨⟨by decide +kernel, by decide +kernel⟩, by decide +kernel⟩
theorem pu_Pe_mustMove : (("LongerHalf$Person" : String) ≠ "java/lang/invoke/MethodHandle" ∧ ("LongerHalf$Person" : String) ≠ "java/lang/invoke/VarHandle") ∧ (parseMethodDescriptor "()Z").map (fun d => d.parameters.length) = some 0 := ⟨⟨by decide +kernel, by decide +kernel⟩, by decide +kernel⟩
theorem pu_Bo_places : (("LongerHalf$Bone" : String) ≠ "java/lang/invoke/MethodHandle" ∧ ("LongerHalf$Bone" : String) ≠ "java/lang/invoke/VarHandle") ∧ (parseMethodDescriptor "()I").map (fun d => d.parameters.length) = some 0 := ⟨⟨by decide +kernel, by decide +kernel⟩, by decide +kernel⟩
theorem pu_Pe_hold : (("LongerHalf$Person" : String) ≠ "java/lang/invoke/MethodHandle" ∧ ("LongerHalf$Person" : String) ≠ "java/lang/invoke/VarHandle") ∧ (parseMethodDescriptor "(LLongerHalf$Bone;I)I").map (fun d => d.parameters.length) = some 2 := ⟨⟨by decide +kernel, by decide +kernel⟩, by decide +kernel⟩
/-- LongerHalf$Refused.<init>()V -/
abbrev M_X3_init : MM := (yX3_init, cX3_init, none, 4, 124, 1, [])
theorem pd_X3_init : (yX3_init.cls ≠ "java/lang/invoke/MethodHandle" ∧ yX3_init.cls ≠ "java/lang/invoke/VarHandle") ∧ (parseMethodDescriptor yX3_init.desc).map (fun d => d.parameters.length) = some 0 := ⟨⟨by decide +kernel, by decide +kernel⟩, by decide +kernel⟩
noncomputable def F_X3_init_b0 : KK OO :=
  op_ald 0 <| op_push .null <| op_push .null <| op_push (.int 0) <| op_push (.int 0) <| op_call 5 (f_rcv F_J2_init) kx_no <| op_ald 0 <| op_push (.int (-1)) <| op_pfi .int [12] 38 <| op_vret
theorem bs_X3_init_b0 : B_S M_X3_init 0 (F_X3_init_b0) z_O k_O := by
  unfold F_X3_init_b0
  refine BS_aload_n dX3_init_0 rfl ?_
  refine BS_null dX3_init_1 ?_
  refine BS_null dX3_init_2 ?_
  refine BS_iconst dX3_init_3 (by decide) ?_
  refine BS_iconst dX3_init_4 (by decide) ?_
  refine BS_call (run_I dX3_init_5 con_J2_init q225 q226 q140 q227 rfl pd_J2_init ⟨Nat.le_of_ble_eq_true rfl, Nat.le_of_ble_eq_true rfl⟩) BV_no ?_
  refine BS_aload_n dX3_init_8 rfl ?_
  refine BS_iconst dX3_init_9 (by decide) ?_
  refine BS_pfi p_X3_9 (fun h => by cases h) dX3_init_10 ?_
  exact BS_return dX3_init_13 rfl
noncomputable def F_X3_init : FF := mk_F 1 F_X3_init_b0
theorem con_X3_init : Con_ yX3_init (ws_ yX3_init cX3_init 1 none) 4 124 F_X3_init := Con_of (by decide +kernel) bs_X3_init_b0
/-- LongerHalf$Drawer.<init>()V -/
abbrev M_X4_init : MM := (yX4_init, cX4_init, none, 1, 52, 1, [])
theorem pd_X4_init : (yX4_init.cls ≠ "java/lang/invoke/MethodHandle" ∧ yX4_init.cls ≠ "java/lang/invoke/VarHandle") ∧ (parseMethodDescriptor yX4_init.desc).map (fun d => d.parameters.length) = some 0 := ⟨⟨by decide +kernel, by decide +kernel⟩, by decide +kernel⟩
noncomputable def F_X4_init_b0 : KK OO :=
  op_ald 0 <| op_oinit <| op_ald 0 <| op_push (.int 5) <| op_newa 1 <| op_pfr [13] 39 <| op_ald 0 <| op_push (.int 6) <| op_newa 1 <| op_pfr [13] 40 <| op_vret
theorem bs_X4_init_b0 : B_S M_X4_init 0 (F_X4_init_b0) z_O k_O := by
  unfold F_X4_init_b0
  refine BS_aload_n dX4_init_0 rfl ?_
  refine BS_oinit dX4_init_1 q293 q174 q175 (Nat.le_of_ble_eq_true rfl) (Nat.le_of_ble_eq_true rfl) ?_
  refine BS_aload_n dX4_init_4 rfl ?_
  refine BS_iconst dX4_init_5 (by decide) ?_
  refine BS_newarray_i dX4_init_6 ?_
  refine BS_pfr p_X4_9 rfl (fun _ => rfl) dX4_init_8 ?_
  refine BS_aload_n dX4_init_11 rfl ?_
  refine BS_bipush dX4_init_12 (by decide) ?_
  refine BS_newarray_i dX4_init_14 ?_
  refine BS_pfr p_X4_15 rfl (fun _ => rfl) dX4_init_16 ?_
  exact BS_return dX4_init_19 rfl
noncomputable def F_X4_init : FF := mk_F 1 F_X4_init_b0
theorem con_X4_init : Con_ yX4_init (ws_ yX4_init cX4_init 1 none) 1 52 F_X4_init := Con_of (by decide +kernel) bs_X4_init_b0
/-- LongerHalf$Pull.<init>()V -/
abbrev M_X5_init : MM := (yX5_init, cX5_init, none, 1, 52, 1, [])
theorem pd_X5_init : (yX5_init.cls ≠ "java/lang/invoke/MethodHandle" ∧ yX5_init.cls ≠ "java/lang/invoke/VarHandle") ∧ (parseMethodDescriptor yX5_init.desc).map (fun d => d.parameters.length) = some 0 := ⟨⟨by decide +kernel, by decide +kernel⟩, by decide +kernel⟩
noncomputable def F_X5_init_b0 : KK OO :=
  op_ald 0 <| op_oinit <| op_ald 0 <| op_push (.int 2) <| op_newa 6 <| op_pfr [14] 44 <| op_ald 0 <| op_push (.int 2) <| op_newa 1 <| op_pfr [14] 45 <| op_vret
theorem bs_X5_init_b0 : B_S M_X5_init 0 (F_X5_init_b0) z_O k_O := by
  unfold F_X5_init_b0
  refine BS_aload_n dX5_init_0 rfl ?_
  refine BS_oinit dX5_init_1 q321 q174 q175 (Nat.le_of_ble_eq_true rfl) (Nat.le_of_ble_eq_true rfl) ?_
  refine BS_aload_n dX5_init_4 rfl ?_
  refine BS_iconst dX5_init_5 (by decide) ?_
  refine BS_anewarray dX5_init_6 (by decide) (by decide) (C := "LongerHalf$Person") rfl (by decide) q322 ?_
  refine BS_pfr p_X5_11 rfl (fun _ => rfl) dX5_init_9 ?_
  refine BS_aload_n dX5_init_12 rfl ?_
  refine BS_iconst dX5_init_13 (by decide) ?_
  refine BS_newarray_i dX5_init_14 ?_
  refine BS_pfr p_X5_17 rfl (fun _ => rfl) dX5_init_16 ?_
  exact BS_return dX5_init_19 rfl
noncomputable def F_X5_init : FF := mk_F 1 F_X5_init_b0
theorem con_X5_init : Con_ yX5_init (ws_ yX5_init cX5_init 1 none) 1 52 F_X5_init := Con_of (by decide +kernel) bs_X5_init_b0
/-- LongerHalf$Game.<init>(LLongerHalf$Pull;)V -/
abbrev M_X6_init : MM := (yX6_init, cX6_init, none, 1, 52, 2, [])
theorem pd_X6_init : (yX6_init.cls ≠ "java/lang/invoke/MethodHandle" ∧ yX6_init.cls ≠ "java/lang/invoke/VarHandle") ∧ (parseMethodDescriptor yX6_init.desc).map (fun d => d.parameters.length) = some 1 := ⟨⟨by decide +kernel, by decide +kernel⟩, by decide +kernel⟩
noncomputable def F_X6_init_b0 : KK OO :=
  op_ald 0 <| op_oinit <| op_ald 0 <| op_push (.int 144) <| op_newa 5 <| op_pfr [15] 55 <| op_ald 0 <| op_push (.int 144) <| op_newa 5 <| op_pfr [15] 56 <| op_ald 0 <| op_ald 1 <| op_pfr [15] 57 <| op_vret
theorem bs_X6_init_b0 : B_S M_X6_init 0 (F_X6_init_b0) z_O k_O := by
  unfold F_X6_init_b0
  refine BS_aload_n dX6_init_0 rfl ?_
  refine BS_oinit dX6_init_1 q366 q174 q175 (Nat.le_of_ble_eq_true rfl) (Nat.le_of_ble_eq_true rfl) ?_
  refine BS_aload_n dX6_init_4 rfl ?_
  refine BS_sipush dX6_init_5 (by decide) ?_
  refine BS_newarray_l dX6_init_8 ?_
  refine BS_pfr p_X6_9 rfl (fun _ => rfl) dX6_init_10 ?_
  refine BS_aload_n dX6_init_13 rfl ?_
  refine BS_sipush dX6_init_14 (by decide) ?_
  refine BS_newarray_l dX6_init_17 ?_
  refine BS_pfr p_X6_15 rfl (fun _ => rfl) dX6_init_19 ?_
  refine BS_aload_n dX6_init_22 rfl ?_
  refine BS_aload_n dX6_init_23 rfl ?_
  refine BS_pfr p_X6_18 rfl (fun _ => rfl) dX6_init_24 ?_
  exact BS_return dX6_init_27 rfl
noncomputable def F_X6_init : FF := mk_F 2 F_X6_init_b0
theorem con_X6_init : Con_ yX6_init (ws_ yX6_init cX6_init 2 none) 1 52 F_X6_init := Con_of (by decide +kernel) bs_X6_init_b0
/-- LongerHalf$Turns.<init>()V -/
abbrev M_X7_init : MM := (yX7_init, cX7_init, none, 1, 52, 1, [])
theorem pd_X7_init : (yX7_init.cls ≠ "java/lang/invoke/MethodHandle" ∧ yX7_init.cls ≠ "java/lang/invoke/VarHandle") ∧ (parseMethodDescriptor yX7_init.desc).map (fun d => d.parameters.length) = some 0 := ⟨⟨by decide +kernel, by decide +kernel⟩, by decide +kernel⟩
noncomputable def F_X7_init_b0 : KK OO :=
  op_ald 0 <| op_oinit <| op_ald 0 <| op_push (.int 9) <| op_newa 1 <| op_pfr [16] 63 <| op_ald 0 <| op_push (.int 9) <| op_newa 1 <| op_pfr [16] 64 <| op_ald 0 <| op_push (.int 6) <| op_newa 1 <| op_pfr [16] 65 <| op_vret
theorem bs_X7_init_b0 : B_S M_X7_init 0 (F_X7_init_b0) z_O k_O := by
  unfold F_X7_init_b0
  refine BS_aload_n dX7_init_0 rfl ?_
  refine BS_oinit dX7_init_1 q400 q174 q175 (Nat.le_of_ble_eq_true rfl) (Nat.le_of_ble_eq_true rfl) ?_
  refine BS_aload_n dX7_init_4 rfl ?_
  refine BS_bipush dX7_init_5 (by decide) ?_
  refine BS_newarray_i dX7_init_7 ?_
  refine BS_pfr p_X7_9 rfl (fun _ => rfl) dX7_init_9 ?_
  refine BS_aload_n dX7_init_12 rfl ?_
  refine BS_bipush dX7_init_13 (by decide) ?_
  refine BS_newarray_i dX7_init_15 ?_
  refine BS_pfr p_X7_15 rfl (fun _ => rfl) dX7_init_17 ?_
  refine BS_aload_n dX7_init_20 rfl ?_
  refine BS_bipush dX7_init_21 (by decide) ?_
  refine BS_newarray_i dX7_init_23 ?_
  refine BS_pfr p_X7_18 rfl (fun _ => rfl) dX7_init_25 ?_
  exact BS_return dX7_init_28 rfl
noncomputable def F_X7_init : FF := mk_F 1 F_X7_init_b0
theorem con_X7_init : Con_ yX7_init (ws_ yX7_init cX7_init 1 none) 1 52 F_X7_init := Con_of (by decide +kernel) bs_X7_init_b0
/-- LongerHalf$Refused.at(II)LLongerHalf$Refused; -/
abbrev M_X3_at : MM := (yX3_at, cX3_at, (some (.object "LongerHalf$Refused")), 0, 0, 3, [])
theorem pd_X3_at : (yX3_at.cls ≠ "java/lang/invoke/MethodHandle" ∧ yX3_at.cls ≠ "java/lang/invoke/VarHandle") ∧ (parseMethodDescriptor yX3_at.desc).map (fun d => d.parameters.length) = some 2 := ⟨⟨by decide +kernel, by decide +kernel⟩, by decide +kernel⟩
noncomputable def F_X3_at_b0 : KK OO :=
  op_ald 0 <| op_ild 1 <| op_pfi .int [12] 37 <| op_ald 0 <| op_ild 2 <| op_pfi .int [12] 38 <| op_ald 0 <| op_aret
theorem bs_X3_at_b0 : B_S M_X3_at 0 (F_X3_at_b0) z_O k_O := by
  unfold F_X3_at_b0
  refine BS_aload_n dX3_at_0 rfl ?_
  refine BS_iload_n dX3_at_1 rfl ?_
  refine BS_pfi p_X3_15 (fun h => by cases h) dX3_at_2 ?_
  refine BS_aload_n dX3_at_5 rfl ?_
  refine BS_iload_n dX3_at_6 rfl ?_
  refine BS_pfi p_X3_9 (fun h => by cases h) dX3_at_7 ?_
  refine BS_aload_n dX3_at_10 rfl ?_
  exact BS_areturn dX3_at_11 rfl (Or.inl ⟨_, rfl⟩)
noncomputable def F_X3_at : FF := mk_F 3 F_X3_at_b0
theorem con_X3_at : Con_ yX3_at (ws_ yX3_at cX3_at 3 (some (.object "LongerHalf$Refused"))) 0 0 F_X3_at := Con_of (by decide +kernel) bs_X3_at_b0
/-- LongerHalf$Kitchen.among([LLongerHalf$Named;ILjava/lang/String;)LLongerHalf$Named; -/
abbrev M_X9_among : MM := (yX9_among, cX9_among, (some (.object "LongerHalf$Named")), 2, 44, 4, [])
theorem pd_X9_among : (yX9_among.cls ≠ "java/lang/invoke/MethodHandle" ∧ yX9_among.cls ≠ "java/lang/invoke/VarHandle") ∧ (parseMethodDescriptor yX9_among.desc).map (fun d => d.parameters.length) = some 3 := ⟨⟨by decide +kernel, by decide +kernel⟩, by decide +kernel⟩
noncomputable def F_X9_among_l2 : KK (L_S ⊕ OO) :=
  op_ild 3 <| op_ild 1 <| op_cge (op_exit <| op_push .null <| op_aret) (op_ald 0 <| op_ild 3 <| op_aald2 <| op_gfr [18, 19, 20, 21, 22, 23, 24] 86 <| op_ald 2 <| op_call 2 (f_kd 27 F_J3_equals) kx_no <| op_ieq (op_iinc 3 1 <| op_back) (op_exit <| op_ald 0 <| op_ild 3 <| op_aald2 <| op_aret))
theorem bs_X9_among_l2 : B_S M_X9_among 2 (F_X9_among_l2) (z_L z_O) (k_L 2 k_O) := by
  unfold F_X9_among_l2
  refine BS_iload_n dX9_among_2 rfl ?_
  refine BS_iload_n dX9_among_3 rfl ?_
  refine BS_icmp_ge (tgt := 30) dX9_among_4 (by decide) ?_ ?_
  · refine BS_exit ?_
    refine BS_null dX9_among_30 ?_
    exact BS_areturn dX9_among_31 rfl (Or.inl ⟨_, rfl⟩)
  · refine BS_aload_n dX9_among_7 rfl ?_
    refine BS_iload_n dX9_among_8 rfl ?_
    refine BS_aaload2 dX9_among_9 ?_
    refine BS_gfr f_X9_30 dX9_among_10 ?_
    refine BS_aload_n dX9_among_13 rfl ?_
    refine BS_call (run_V dX9_among_14 con_J3_equals (ci := 17) rfl rfl q817 q754 q755 q148 q756 pd_J3_equals ⟨Nat.le_of_ble_eq_true rfl, Nat.le_of_ble_eq_true rfl⟩) BV_no ?_
    refine BS_if_eq (tgt := 24) dX9_among_17 (by decide) ?_ ?_
    · refine BS_iinc dX9_among_24 (by decide) (Nat.le_of_ble_eq_true rfl) ?_
      refine BS_goto (tgt := 2) dX9_among_27 (by decide) ?_
      exact BS_back
    · refine BS_exit ?_
      refine BS_aload_n dX9_among_20 rfl ?_
      refine BS_iload_n dX9_among_21 rfl ?_
      refine BS_aaload2 dX9_among_22 ?_
      exact BS_areturn dX9_among_23 rfl (Or.inl ⟨_, rfl⟩)
noncomputable def F_X9_among_b2 : KK OO := op_loop (F_X9_among_l2)
theorem bs_X9_among_b2 : B_S M_X9_among 2 (F_X9_among_b2) z_O k_O := BS_loop (bs_X9_among_l2)
noncomputable def F_X9_among_b0 : KK OO :=
  op_push (.int 0) <| op_ist 3 <| F_X9_among_b2
theorem bs_X9_among_b0 : B_S M_X9_among 0 (F_X9_among_b0) z_O k_O := by
  unfold F_X9_among_b0
  refine BS_iconst dX9_among_0 (by decide) ?_
  refine BS_istore_n dX9_among_1 rfl (Nat.le_of_ble_eq_true rfl) ?_
  exact bs_X9_among_b2
noncomputable def F_X9_among : FF := mk_F 4 F_X9_among_b0
theorem con_X9_among : Con_ yX9_among (ws_ yX9_among cX9_among 4 (some (.object "LongerHalf$Named"))) 2 44 F_X9_among := Con_of (by decide +kernel) bs_X9_among_b0
/-- LongerHalf$Kitchen.find(Ljava/lang/String;)LLongerHalf$Named; -/
abbrev M_X9_find : MM := (yX9_find, cX9_find, (some (.object "LongerHalf$Named")), 3, 67, 3, [])
theorem pd_X9_find : (yX9_find.cls ≠ "java/lang/invoke/MethodHandle" ∧ yX9_find.cls ≠ "java/lang/invoke/VarHandle") ∧ (parseMethodDescriptor yX9_find.desc).map (fun d => d.parameters.length) = some 1 := ⟨⟨by decide +kernel, by decide +kernel⟩, by decide +kernel⟩
noncomputable def F_X9_find_b0 : KK OO :=
  op_ald 0 <| op_gfr [17] 68 <| op_ald 0 <| op_gfi [17] 77 <| op_ald 1 <| op_call 3 F_X9_among kx_no <| op_ast 2 <| op_ald 2 <| op_ifnn (op_ald 2 <| op_aret) (op_ald 0 <| op_gfr [17] 69 <| op_ald 0 <| op_gfi [17] 78 <| op_ald 1 <| op_call 3 F_X9_among kx_no <| op_aret)
theorem bs_X9_find_b0 : B_S M_X9_find 0 (F_X9_find_b0) z_O k_O := by
  unfold F_X9_find_b0
  refine BS_aload_n dX9_find_0 rfl ?_
  refine BS_gfr f_X9_11 dX9_find_1 ?_
  refine BS_aload_n dX9_find_4 rfl ?_
  refine BS_gfi f_X9_42 dX9_find_5 ?_
  refine BS_aload_n dX9_find_8 rfl ?_
  refine BS_call (run_S dX9_find_9 con_X9_among q814 q815 q147 q816 pd_X9_among ⟨Nat.le_of_ble_eq_true rfl, Nat.le_of_ble_eq_true rfl⟩) BV_no ?_
  refine BS_astore_n dX9_find_12 rfl (Nat.le_of_ble_eq_true rfl) ?_
  refine BS_aload_n dX9_find_13 rfl ?_
  refine BS_ifnonnull (tgt := 32) dX9_find_14 (by decide) ?_ ?_
  · refine BS_aload_n dX9_find_32 rfl ?_
    exact BS_areturn dX9_find_33 rfl (Or.inl ⟨_, rfl⟩)
  · refine BS_aload_n dX9_find_17 rfl ?_
    refine BS_gfr f_X9_19 dX9_find_18 ?_
    refine BS_aload_n dX9_find_21 rfl ?_
    refine BS_gfi f_X9_50 dX9_find_22 ?_
    refine BS_aload_n dX9_find_25 rfl ?_
    refine BS_call (run_S dX9_find_26 con_X9_among q814 q815 q147 q816 pd_X9_among ⟨Nat.le_of_ble_eq_true rfl, Nat.le_of_ble_eq_true rfl⟩) BV_no ?_
    refine BS_goto (tgt := 33) dX9_find_29 (by decide) ?_
    exact BS_areturn dX9_find_33 rfl (Or.inl ⟨_, rfl⟩)
noncomputable def F_X9_find : FF := mk_F 3 F_X9_find_b0
theorem con_X9_find : Con_ yX9_find (ws_ yX9_find cX9_find 3 (some (.object "LongerHalf$Named"))) 3 67 F_X9_find := Con_of (by decide +kernel) bs_X9_find_b0
/-- LongerHalf$Kitchen.<init>()V -/
abbrev M_X9_init : MM := (yX9_init, cX9_init, none, 1, 52, 1, [])
theorem pd_X9_init : (yX9_init.cls ≠ "java/lang/invoke/MethodHandle" ∧ yX9_init.cls ≠ "java/lang/invoke/VarHandle") ∧ (parseMethodDescriptor yX9_init.desc).map (fun d => d.parameters.length) = some 0 := ⟨⟨by decide +kernel, by decide +kernel⟩, by decide +kernel⟩
noncomputable def F_X9_init_b0 : KK OO :=
  op_ald 0 <| op_oinit <| op_ald 0 <| op_push (.int 5) <| op_newa 8 <| op_pfr [17] 68 <| op_ald 0 <| op_push (.int 6) <| op_newa 6 <| op_pfr [17] 69 <| op_ald 0 <| op_push (.int 4) <| op_newa 1 <| op_pfr [17] 70 <| op_ald 0 <| op_push (.int 4) <| op_newa 1 <| op_pfr [17] 71 <| op_vret
theorem bs_X9_init_b0 : B_S M_X9_init 0 (F_X9_init_b0) z_O k_O := by
  unfold F_X9_init_b0
  refine BS_aload_n dX9_init_0 rfl ?_
  refine BS_oinit dX9_init_1 q515 q174 q175 (Nat.le_of_ble_eq_true rfl) (Nat.le_of_ble_eq_true rfl) ?_
  refine BS_aload_n dX9_init_4 rfl ?_
  refine BS_iconst dX9_init_5 (by decide) ?_
  refine BS_anewarray dX9_init_6 (by decide) (by decide) (C := "LongerHalf$Bone") rfl (by decide) q516 ?_
  refine BS_pfr p_X9_11 rfl (fun _ => rfl) dX9_init_9 ?_
  refine BS_aload_n dX9_init_12 rfl ?_
  refine BS_bipush dX9_init_13 (by decide) ?_
  refine BS_anewarray dX9_init_15 (by decide) (by decide) (C := "LongerHalf$Person") rfl (by decide) q518 ?_
  refine BS_pfr p_X9_19 rfl (fun _ => rfl) dX9_init_18 ?_
  refine BS_aload_n dX9_init_21 rfl ?_
  refine BS_iconst dX9_init_22 (by decide) ?_
  refine BS_newarray_i dX9_init_23 ?_
  refine BS_pfr p_X9_23 rfl (fun _ => rfl) dX9_init_25 ?_
  refine BS_aload_n dX9_init_28 rfl ?_
  refine BS_iconst dX9_init_29 (by decide) ?_
  refine BS_newarray_i dX9_init_30 ?_
  refine BS_pfr p_X9_27 rfl (fun _ => rfl) dX9_init_32 ?_
  exact BS_return dX9_init_35 rfl
noncomputable def F_X9_init : FF := mk_F 1 F_X9_init_b0
theorem con_X9_init : Con_ yX9_init (ws_ yX9_init cX9_init 1 none) 1 52 F_X9_init := Con_of (by decide +kernel) bs_X9_init_b0
/-- LongerHalf$Drawer.begin(LLongerHalf$Kitchen;)V -/
abbrev M_X4_begin : MM := (yX4_begin, cX4_begin, none, 1, 20, 3, [])
theorem pd_X4_begin : (yX4_begin.cls ≠ "java/lang/invoke/MethodHandle" ∧ yX4_begin.cls ≠ "java/lang/invoke/VarHandle") ∧ (parseMethodDescriptor yX4_begin.desc).map (fun d => d.parameters.length) = some 1 := ⟨⟨by decide +kernel, by decide +kernel⟩, by decide +kernel⟩
noncomputable def F_X4_begin_l76 : KK (L_S ⊕ OO) :=
  op_ild 2 <| op_push (.int 6) <| op_cge (op_exit <| op_vret) (op_ald 0 <| op_gfr [13] 40 <| op_ild 2 <| op_push (.int 0) <| op_iast 1 .int <| op_iinc 2 1 <| op_back)
theorem bs_X4_begin_l76 : B_S M_X4_begin 76 (F_X4_begin_l76) (z_L z_O) (k_L 76 k_O) := by
  unfold F_X4_begin_l76
  refine BS_iload_n dX4_begin_76 rfl ?_
  refine BS_bipush dX4_begin_77 (by decide) ?_
  refine BS_icmp_ge (tgt := 95) dX4_begin_79 (by decide) ?_ ?_
  · refine BS_exit ?_
    exact BS_return dX4_begin_95 rfl
  · refine BS_aload_n dX4_begin_82 rfl ?_
    refine BS_gfr f_X4_15 dX4_begin_83 ?_
    refine BS_iload_n dX4_begin_86 rfl ?_
    refine BS_iconst dX4_begin_87 (by decide) ?_
    refine BS_iastore dX4_begin_88 ?_
    refine BS_iinc dX4_begin_89 (by decide) (Nat.le_of_ble_eq_true rfl) ?_
    refine BS_goto (tgt := 76) dX4_begin_92 (by decide) ?_
    exact BS_back
noncomputable def F_X4_begin_b76 : KK OO := op_loop (F_X4_begin_l76)
theorem bs_X4_begin_b76 : B_S M_X4_begin 76 (F_X4_begin_b76) z_O k_O := BS_loop (bs_X4_begin_l76)
noncomputable def F_X4_begin_b64 : KK (L_S ⊕ OO) :=
  op_i2 (fun x y => x ||| y) <| op_pfi .int [13] 41 <| op_iinc 2 1 <| op_back
theorem bs_X4_begin_b64 : B_S M_X4_begin 64 (F_X4_begin_b64) (z_L z_O) (k_L 17 k_O) := by
  unfold F_X4_begin_b64
  refine BS_ior dX4_begin_64 ?_
  refine BS_pfi p_X4_18 (fun h => by cases h) dX4_begin_65 ?_
  refine BS_iinc dX4_begin_68 (by decide) (Nat.le_of_ble_eq_true rfl) ?_
  refine BS_goto (tgt := 17) dX4_begin_71 (by decide) ?_
  exact BS_back
noncomputable def F_X4_begin_l17 : KK (L_S ⊕ OO) :=
  op_ild 2 <| op_ald 1 <| op_gfi [17] 77 <| op_cge (op_exit <| op_push (.int 0) <| op_ist 2 <| F_X4_begin_b76) (op_ald 0 <| op_gfr [13] 39 <| op_ild 2 <| op_ald 1 <| op_gfr [17] 68 <| op_ild 2 <| op_aald 8 <| op_gfi [18, 19, 20] 85 <| op_iast 1 .int <| op_ald 0 <| op_dup <| op_gfi [13] 41 <| op_ald 1 <| op_gfr [17] 68 <| op_ild 2 <| op_aald 8 <| op_call 1 (f_or (f_kd 18 F_X11_isRubber) (f_or (f_kd 19 F_X11_isRubber) (f_kd 20 F_X14_isRubber))) kx_no <| op_ieq (op_push (.int 0) <| F_X4_begin_b64) (op_push (.int 1) <| op_ild 2 <| op_i2 (fun x y => x <<< (y &&& 31)) <| F_X4_begin_b64))
theorem bs_X4_begin_l17 : B_S M_X4_begin 17 (F_X4_begin_l17) (z_L z_O) (k_L 17 k_O) := by
  unfold F_X4_begin_l17
  refine BS_iload_n dX4_begin_17 rfl ?_
  refine BS_aload_n dX4_begin_18 rfl ?_
  refine BS_gfi f_X4_28 dX4_begin_19 ?_
  refine BS_icmp_ge (tgt := 74) dX4_begin_22 (by decide) ?_ ?_
  · refine BS_exit ?_
    refine BS_iconst dX4_begin_74 (by decide) ?_
    refine BS_istore_n dX4_begin_75 rfl (Nat.le_of_ble_eq_true rfl) ?_
    exact bs_X4_begin_b76
  · refine BS_aload_n dX4_begin_25 rfl ?_
    refine BS_gfr f_X4_9 dX4_begin_26 ?_
    refine BS_iload_n dX4_begin_29 rfl ?_
    refine BS_aload_n dX4_begin_30 rfl ?_
    refine BS_gfr f_X4_33 dX4_begin_31 ?_
    refine BS_iload_n dX4_begin_34 rfl ?_
    refine BS_aaload dX4_begin_35 (by decide) (by decide) (C := "LongerHalf$Bone") rfl ?_
    refine BS_gfi f_X4_37 dX4_begin_36 ?_
    refine BS_iastore dX4_begin_39 ?_
    refine BS_aload_n dX4_begin_40 rfl ?_
    refine BS_dup dX4_begin_41 ?_
    refine BS_gfi f_X4_18 dX4_begin_42 ?_
    refine BS_aload_n dX4_begin_45 rfl ?_
    refine BS_gfr f_X4_33 dX4_begin_46 ?_
    refine BS_iload_n dX4_begin_49 rfl ?_
    refine BS_aaload dX4_begin_50 (by decide) (by decide) (C := "LongerHalf$Bone") rfl ?_
    refine BS_call ((run_or (run_U dX4_begin_51 con_X11_isRubber (ci := 8) rfl q1068 q1070 q1075 q1069 q154 q1076 (Or.inl ⟨_, _, _, q1069, q1076⟩) pu_Bo_isRubber ⟨Nat.le_of_ble_eq_true rfl, Nat.le_of_ble_eq_true rfl⟩) (run_or (run_U dX4_begin_51 con_X11_isRubber (ci := 9) rfl q1068 q1070 q1074 q1069 q154 q1076 (Or.inl ⟨_, _, _, q1069, q1076⟩) pu_Bo_isRubber ⟨Nat.le_of_ble_eq_true rfl, Nat.le_of_ble_eq_true rfl⟩) (run_U dX4_begin_51 con_X14_isRubber (ci := 10) rfl q1068 q1070 q1071 q1072 q157 q1073 (Or.inl ⟨_, _, _, q1069, q1076⟩) pu_Bo_isRubber ⟨Nat.le_of_ble_eq_true rfl, Nat.le_of_ble_eq_true rfl⟩)))) BV_no ?_
    refine BS_if_eq (tgt := 63) dX4_begin_54 (by decide) ?_ ?_
    · refine BS_iconst dX4_begin_63 (by decide) ?_
      exact bs_X4_begin_b64
    · refine BS_iconst dX4_begin_57 (by decide) ?_
      refine BS_iload_n dX4_begin_58 rfl ?_
      refine BS_ishl dX4_begin_59 ?_
      refine BS_goto (tgt := 64) dX4_begin_60 (by decide) ?_
      exact bs_X4_begin_b64
noncomputable def F_X4_begin_b17 : KK OO := op_loop (F_X4_begin_l17)
theorem bs_X4_begin_b17 : B_S M_X4_begin 17 (F_X4_begin_b17) z_O k_O := BS_loop (bs_X4_begin_l17)
noncomputable def F_X4_begin_b0 : KK OO :=
  op_ald 0 <| op_push (.int 0) <| op_pfi .int [13] 41 <| op_ald 0 <| op_push (.int 0) <| op_pfi .int [13] 42 <| op_ald 0 <| op_push (.int 0) <| op_pfi .int [13] 43 <| op_push (.int 0) <| op_ist 2 <| F_X4_begin_b17
theorem bs_X4_begin_b0 : B_S M_X4_begin 0 (F_X4_begin_b0) z_O k_O := by
  unfold F_X4_begin_b0
  refine BS_aload_n dX4_begin_0 rfl ?_
  refine BS_iconst dX4_begin_1 (by decide) ?_
  refine BS_pfi p_X4_18 (fun h => by cases h) dX4_begin_2 ?_
  refine BS_aload_n dX4_begin_5 rfl ?_
  refine BS_iconst dX4_begin_6 (by decide) ?_
  refine BS_pfi p_X4_22 (fun h => by cases h) dX4_begin_7 ?_
  refine BS_aload_n dX4_begin_10 rfl ?_
  refine BS_iconst dX4_begin_11 (by decide) ?_
  refine BS_pfi p_X4_25 (fun h => by cases h) dX4_begin_12 ?_
  refine BS_iconst dX4_begin_15 (by decide) ?_
  refine BS_istore_n dX4_begin_16 rfl (Nat.le_of_ble_eq_true rfl) ?_
  exact bs_X4_begin_b17
noncomputable def F_X4_begin : FF := mk_F 3 F_X4_begin_b0
theorem con_X4_begin : Con_ yX4_begin (ws_ yX4_begin cX4_begin 3 none) 1 20 F_X4_begin := Con_of (by decide +kernel) bs_X4_begin_b0
/-- LongerHalf$Pull.lay(LLongerHalf$Kitchen;LLongerHalf$Bone;IZ)V -/
abbrev M_X5_lay : MM := (yX5_lay, cX5_lay, none, 0, 0, 5, [])
theorem pd_X5_lay : (yX5_lay.cls ≠ "java/lang/invoke/MethodHandle" ∧ yX5_lay.cls ≠ "java/lang/invoke/VarHandle") ∧ (parseMethodDescriptor yX5_lay.desc).map (fun d => d.parameters.length) = some 4 := ⟨⟨by decide +kernel, by decide +kernel⟩, by decide +kernel⟩
noncomputable def F_X5_lay_b0 : KK OO :=
  op_ald 0 <| op_ald 1 <| op_pfr [14] 46 <| op_ald 0 <| op_ald 2 <| op_pfr [14] 47 <| op_ald 0 <| op_ild 3 <| op_pfi .int [14] 49 <| op_ald 0 <| op_ild 4 <| op_pfi .boolean [14] 48 <| op_ald 0 <| op_push (.int (-1)) <| op_pfi .int [14] 51 <| op_vret
theorem bs_X5_lay_b0 : B_S M_X5_lay 0 (F_X5_lay_b0) z_O k_O := by
  unfold F_X5_lay_b0
  refine BS_aload_n dX5_lay_0 rfl ?_
  refine BS_aload_n dX5_lay_1 rfl ?_
  refine BS_pfr p_X5_21 rfl (fun h => by cases h) dX5_lay_2 ?_
  refine BS_aload_n dX5_lay_5 rfl ?_
  refine BS_aload_n dX5_lay_6 rfl ?_
  refine BS_pfr p_X5_25 rfl (fun h => by cases h) dX5_lay_7 ?_
  refine BS_aload_n dX5_lay_10 rfl ?_
  refine BS_iload_n dX5_lay_11 rfl ?_
  refine BS_pfi p_X5_29 (fun h => by cases h) dX5_lay_12 ?_
  refine BS_aload_n dX5_lay_15 rfl ?_
  refine BS_iload dX5_lay_16 ?_
  refine BS_pfi p_X5_33 (fun h => by cases h) dX5_lay_18 ?_
  refine BS_aload_n dX5_lay_21 rfl ?_
  refine BS_iconst dX5_lay_22 (by decide) ?_
  refine BS_pfi p_X5_37 (fun h => by cases h) dX5_lay_23 ?_
  exact BS_return dX5_lay_26 rfl
noncomputable def F_X5_lay : FF := mk_F 5 F_X5_lay_b0
theorem con_X5_lay : Con_ yX5_lay (ws_ yX5_lay cX5_lay 5 none) 0 0 F_X5_lay := Con_of (by decide +kernel) bs_X5_lay_b0
/-- LongerHalf$Pull.strength(IILLongerHalf$Person;)I -/
abbrev M_X5_strength : MM := (yX5_strength, cX5_strength, (some .int), 1, 22, 5, [])
theorem pd_X5_strength : (yX5_strength.cls ≠ "java/lang/invoke/MethodHandle" ∧ yX5_strength.cls ≠ "java/lang/invoke/VarHandle") ∧ (parseMethodDescriptor yX5_strength.desc).map (fun d => d.parameters.length) = some 3 := ⟨⟨by decide +kernel, by decide +kernel⟩, by decide +kernel⟩
noncomputable def F_X5_strength_b45 : KK OO :=
  op_i2 (fun x y => x + y) <| op_ist 4 <| op_ild 1 <| op_ald 0 <| op_gfi [14] 51 <| op_cne (op_ild 4 <| op_iret .int) (op_ild 2 <| op_ald 0 <| op_gfi [14] 52 <| op_cne (op_ild 4 <| op_iret .int) (op_ild 4 <| op_push (.int 2) <| op_i2d (fun x y => x / y) <| op_iret .int))
theorem bs_X5_strength_b45 : B_S M_X5_strength 45 (F_X5_strength_b45) z_O k_O := by
  unfold F_X5_strength_b45
  refine BS_iadd dX5_strength_45 ?_
  refine BS_istore dX5_strength_46 (Nat.le_of_ble_eq_true rfl) ?_
  refine BS_iload_n dX5_strength_48 rfl ?_
  refine BS_aload_n dX5_strength_49 rfl ?_
  refine BS_gfi f_X5_37 dX5_strength_50 ?_
  refine BS_icmp_ne (tgt := 71) dX5_strength_53 (by decide) ?_ ?_
  · refine BS_iload dX5_strength_71 ?_
    exact BS_ireturn dX5_strength_73 rfl
  · refine BS_iload_n dX5_strength_56 rfl ?_
    refine BS_aload_n dX5_strength_57 rfl ?_
    refine BS_gfi f_X5_49 dX5_strength_58 ?_
    refine BS_icmp_ne (tgt := 71) dX5_strength_61 (by decide) ?_ ?_
    · refine BS_iload dX5_strength_71 ?_
      exact BS_ireturn dX5_strength_73 rfl
    · refine BS_iload dX5_strength_64 ?_
      refine BS_iconst dX5_strength_66 (by decide) ?_
      refine BS_idiv dX5_strength_67 ?_
      refine BS_goto (tgt := 73) dX5_strength_68 (by decide) ?_
      exact BS_ireturn dX5_strength_73 rfl
noncomputable def F_X5_strength_b44 : KK OO :=
  op_push (.int 0) <| F_X5_strength_b45
theorem bs_X5_strength_b44 : B_S M_X5_strength 44 (F_X5_strength_b44) z_O k_O := by
  unfold F_X5_strength_b44
  refine BS_iconst dX5_strength_44 (by decide) ?_
  exact bs_X5_strength_b45
noncomputable def F_X5_strength_b0 : KK OO :=
  op_ald 0 <| op_gfr [14] 47 <| op_ild 1 <| op_ild 2 <| op_call 3 (f_or (f_kd 18 F_X11_thick) (f_or (f_kd 19 F_X11_thick) (f_kd 20 F_X11_thick))) kx_no <| op_ald 0 <| op_gfr [14] 46 <| op_gfi [17] 73 <| op_ald 0 <| op_gfi [14] 49 <| op_i2 (fun x y => x - y) <| op_i2 (fun x y => x * y) <| op_ild 2 <| op_push (.int 2) <| op_cge (F_X5_strength_b44) (op_ald 3 <| op_call 1 (f_or (f_kd 21 F_X15_presses) (f_or (f_kd 22 F_X15_presses) (f_or (f_kd 23 F_X15_presses) (f_kd 24 F_X19_presses)))) kx_no <| op_ieq (F_X5_strength_b44) (op_ald 0 <| op_gfr [14] 46 <| op_gfi [17] 75 <| F_X5_strength_b45))
theorem bs_X5_strength_b0 : B_S M_X5_strength 0 (F_X5_strength_b0) z_O k_O := by
  unfold F_X5_strength_b0
  refine BS_aload_n dX5_strength_0 rfl ?_
  refine BS_gfr f_X5_25 dX5_strength_1 ?_
  refine BS_iload_n dX5_strength_4 rfl ?_
  refine BS_iload_n dX5_strength_5 rfl ?_
  refine BS_call ((run_or (run_U dX5_strength_6 con_X11_thick (ci := 8) rfl q1165 q1117 q1120 q1116 q154 q1121 (Or.inl ⟨_, _, _, q1116, q1121⟩) pu_Bo_thick ⟨Nat.le_of_ble_eq_true rfl, Nat.le_of_ble_eq_true rfl⟩) (run_or (run_U dX5_strength_6 con_X11_thick (ci := 9) rfl q1165 q1117 q1119 q1116 q154 q1121 (Or.inl ⟨_, _, _, q1116, q1121⟩) pu_Bo_thick ⟨Nat.le_of_ble_eq_true rfl, Nat.le_of_ble_eq_true rfl⟩) (run_U dX5_strength_6 con_X11_thick (ci := 10) rfl q1165 q1117 q1118 q1116 q154 q1121 (Or.inl ⟨_, _, _, q1116, q1121⟩) pu_Bo_thick ⟨Nat.le_of_ble_eq_true rfl, Nat.le_of_ble_eq_true rfl⟩)))) BV_no ?_
  refine BS_aload_n dX5_strength_9 rfl ?_
  refine BS_gfr f_X5_21 dX5_strength_10 ?_
  refine BS_gfi f_X5_62 dX5_strength_13 ?_
  refine BS_aload_n dX5_strength_16 rfl ?_
  refine BS_gfi f_X5_29 dX5_strength_17 ?_
  refine BS_isub dX5_strength_20 ?_
  refine BS_imul dX5_strength_21 ?_
  refine BS_iload_n dX5_strength_22 rfl ?_
  refine BS_iconst dX5_strength_23 (by decide) ?_
  refine BS_icmp_ge (tgt := 44) dX5_strength_24 (by decide) ?_ ?_
  · exact bs_X5_strength_b44
  · refine BS_aload_n dX5_strength_27 rfl ?_
    refine BS_call ((run_or (run_U dX5_strength_28 con_X15_presses (ci := 11) rfl q1166 q1168 q1174 q1167 q158 q1175 (Or.inl ⟨_, _, _, q1167, q1175⟩) pu_Pe_presses ⟨Nat.le_of_ble_eq_true rfl, Nat.le_of_ble_eq_true rfl⟩) (run_or (run_U dX5_strength_28 con_X15_presses (ci := 12) rfl q1166 q1168 q1173 q1167 q158 q1175 (Or.inl ⟨_, _, _, q1167, q1175⟩) pu_Pe_presses ⟨Nat.le_of_ble_eq_true rfl, Nat.le_of_ble_eq_true rfl⟩) (run_or (run_U dX5_strength_28 con_X15_presses (ci := 13) rfl q1166 q1168 q1172 q1167 q158 q1175 (Or.inl ⟨_, _, _, q1167, q1175⟩) pu_Pe_presses ⟨Nat.le_of_ble_eq_true rfl, Nat.le_of_ble_eq_true rfl⟩) (run_U dX5_strength_28 con_X19_presses (ci := 14) rfl q1166 q1168 q1169 q1170 q162 q1171 (Or.inl ⟨_, _, _, q1167, q1175⟩) pu_Pe_presses ⟨Nat.le_of_ble_eq_true rfl, Nat.le_of_ble_eq_true rfl⟩))))) BV_no ?_
    refine BS_if_eq (tgt := 44) dX5_strength_31 (by decide) ?_ ?_
    · exact bs_X5_strength_b44
    · refine BS_aload_n dX5_strength_34 rfl ?_
      refine BS_gfr f_X5_21 dX5_strength_35 ?_
      refine BS_gfi f_X5_70 dX5_strength_38 ?_
      refine BS_goto (tgt := 45) dX5_strength_41 (by decide) ?_
      exact bs_X5_strength_b45
noncomputable def F_X5_strength : FF := mk_F 5 F_X5_strength_b0
theorem con_X5_strength : Con_ yX5_strength (ws_ yX5_strength cX5_strength 5 (some .int)) 1 22 F_X5_strength := Con_of (by decide +kernel) bs_X5_strength_b0
/-- LongerHalf$Pull.hold(LLongerHalf$Person;ILLongerHalf$Person;II)V -/
abbrev M_X5_hold : MM := (yX5_hold, cX5_hold, none, 0, 0, 6, [])
theorem pd_X5_hold : (yX5_hold.cls ≠ "java/lang/invoke/MethodHandle" ∧ yX5_hold.cls ≠ "java/lang/invoke/VarHandle") ∧ (parseMethodDescriptor yX5_hold.desc).map (fun d => d.parameters.length) = some 5 := ⟨⟨by decide +kernel, by decide +kernel⟩, by decide +kernel⟩
noncomputable def F_X5_hold_b0 : KK OO :=
  op_ald 0 <| op_gfr [14] 44 <| op_push (.int 0) <| op_ald 1 <| op_aast 6 [21, 22, 23, 24] <| op_ald 0 <| op_gfr [14] 44 <| op_push (.int 1) <| op_ald 3 <| op_aast 6 [21, 22, 23, 24] <| op_ald 0 <| op_gfr [14] 45 <| op_push (.int 0) <| op_ild 2 <| op_iast 1 .int <| op_ald 0 <| op_gfr [14] 45 <| op_push (.int 1) <| op_ild 4 <| op_iast 1 .int <| op_ald 0 <| op_ild 5 <| op_pfi .int [14] 50 <| op_vret
theorem bs_X5_hold_b0 : B_S M_X5_hold 0 (F_X5_hold_b0) z_O k_O := by
  unfold F_X5_hold_b0
  refine BS_aload_n dX5_hold_0 rfl ?_
  refine BS_gfr f_X5_11 dX5_hold_1 ?_
  refine BS_iconst dX5_hold_4 (by decide) ?_
  refine BS_aload_n dX5_hold_5 rfl ?_
  refine BS_aastore dX5_hold_6 (by decide) (by decide) (C := "LongerHalf$Person") rfl ao_6 ?_
  refine BS_aload_n dX5_hold_7 rfl ?_
  refine BS_gfr f_X5_11 dX5_hold_8 ?_
  refine BS_iconst dX5_hold_11 (by decide) ?_
  refine BS_aload_n dX5_hold_12 rfl ?_
  refine BS_aastore dX5_hold_13 (by decide) (by decide) (C := "LongerHalf$Person") rfl ao_6 ?_
  refine BS_aload_n dX5_hold_14 rfl ?_
  refine BS_gfr f_X5_17 dX5_hold_15 ?_
  refine BS_iconst dX5_hold_18 (by decide) ?_
  refine BS_iload_n dX5_hold_19 rfl ?_
  refine BS_iastore dX5_hold_20 ?_
  refine BS_aload_n dX5_hold_21 rfl ?_
  refine BS_gfr f_X5_17 dX5_hold_22 ?_
  refine BS_iconst dX5_hold_25 (by decide) ?_
  refine BS_iload dX5_hold_26 ?_
  refine BS_iastore dX5_hold_28 ?_
  refine BS_aload_n dX5_hold_29 rfl ?_
  refine BS_iload dX5_hold_30 ?_
  refine BS_pfi p_X5_40 (fun h => by cases h) dX5_hold_32 ?_
  exact BS_return dX5_hold_35 rfl
noncomputable def F_X5_hold : FF := mk_F 6 F_X5_hold_b0
theorem con_X5_hold : Con_ yX5_hold (ws_ yX5_hold cX5_hold 6 none) 0 0 F_X5_hold := Con_of (by decide +kernel) bs_X5_hold_b0
/-- LongerHalf$Pull.doesMove(I)Z -/
abbrev M_X5_doesMove : MM := (yX5_doesMove, cX5_doesMove, (some .boolean), 1, 20, 2, [])
theorem pd_X5_doesMove : (yX5_doesMove.cls ≠ "java/lang/invoke/MethodHandle" ∧ yX5_doesMove.cls ≠ "java/lang/invoke/VarHandle") ∧ (parseMethodDescriptor yX5_doesMove.desc).map (fun d => d.parameters.length) = some 1 := ⟨⟨by decide +kernel, by decide +kernel⟩, by decide +kernel⟩
noncomputable def F_X5_doesMove_b28 : KK OO :=
  op_push (.int 1) <| op_iret .boolean
theorem bs_X5_doesMove_b28 : B_S M_X5_doesMove 28 (F_X5_doesMove_b28) z_O k_O := by
  unfold F_X5_doesMove_b28
  refine BS_iconst dX5_doesMove_28 (by decide) ?_
  refine BS_goto (tgt := 33) dX5_doesMove_29 (by decide) ?_
  exact BS_ireturn dX5_doesMove_33 rfl
noncomputable def F_X5_doesMove_b0 : KK OO :=
  op_ald 0 <| op_gfi [14] 50 <| op_ild 1 <| op_ceq (F_X5_doesMove_b28) (op_ald 0 <| op_gfi [14] 50 <| op_push (.int 3) <| op_ceq (F_X5_doesMove_b28) (op_ald 0 <| op_gfr [14] 44 <| op_ild 1 <| op_aald 6 <| op_call 1 (f_or (f_kd 21 F_X15_mustMove) (f_or (f_kd 22 F_X15_mustMove) (f_or (f_kd 23 F_X18_mustMove) (f_kd 24 F_X15_mustMove)))) kx_no <| op_ieq (op_push (.int 0) <| op_iret .boolean) (F_X5_doesMove_b28)))
theorem bs_X5_doesMove_b0 : B_S M_X5_doesMove 0 (F_X5_doesMove_b0) z_O k_O := by
  unfold F_X5_doesMove_b0
  refine BS_aload_n dX5_doesMove_0 rfl ?_
  refine BS_gfi f_X5_40 dX5_doesMove_1 ?_
  refine BS_iload_n dX5_doesMove_4 rfl ?_
  refine BS_icmp_eq (tgt := 28) dX5_doesMove_5 (by decide) ?_ ?_
  · exact bs_X5_doesMove_b28
  · refine BS_aload_n dX5_doesMove_8 rfl ?_
    refine BS_gfi f_X5_40 dX5_doesMove_9 ?_
    refine BS_iconst dX5_doesMove_12 (by decide) ?_
    refine BS_icmp_eq (tgt := 28) dX5_doesMove_13 (by decide) ?_ ?_
    · exact bs_X5_doesMove_b28
    · refine BS_aload_n dX5_doesMove_16 rfl ?_
      refine BS_gfr f_X5_11 dX5_doesMove_17 ?_
      refine BS_iload_n dX5_doesMove_20 rfl ?_
      refine BS_aaload dX5_doesMove_21 (by decide) (by decide) (C := "LongerHalf$Person") rfl ?_
      refine BS_call ((run_or (run_U dX5_doesMove_22 con_X15_mustMove (ci := 11) rfl q1208 q1210 q1216 q1209 q158 q1217 (Or.inl ⟨_, _, _, q1209, q1217⟩) pu_Pe_mustMove ⟨Nat.le_of_ble_eq_true rfl, Nat.le_of_ble_eq_true rfl⟩) (run_or (run_U dX5_doesMove_22 con_X15_mustMove (ci := 12) rfl q1208 q1210 q1215 q1209 q158 q1217 (Or.inl ⟨_, _, _, q1209, q1217⟩) pu_Pe_mustMove ⟨Nat.le_of_ble_eq_true rfl, Nat.le_of_ble_eq_true rfl⟩) (run_or (run_U dX5_doesMove_22 con_X18_mustMove (ci := 13) rfl q1208 q1210 q1212 q1213 q161 q1214 (Or.inl ⟨_, _, _, q1209, q1217⟩) pu_Pe_mustMove ⟨Nat.le_of_ble_eq_true rfl, Nat.le_of_ble_eq_true rfl⟩) (run_U dX5_doesMove_22 con_X15_mustMove (ci := 14) rfl q1208 q1210 q1211 q1209 q158 q1217 (Or.inl ⟨_, _, _, q1209, q1217⟩) pu_Pe_mustMove ⟨Nat.le_of_ble_eq_true rfl, Nat.le_of_ble_eq_true rfl⟩))))) BV_no ?_
      refine BS_if_eq (tgt := 32) dX5_doesMove_25 (by decide) ?_ ?_
      · refine BS_iconst dX5_doesMove_32 (by decide) ?_
        exact BS_ireturn dX5_doesMove_33 rfl
      · exact bs_X5_doesMove_b28
noncomputable def F_X5_doesMove : FF := mk_F 2 F_X5_doesMove_b0
theorem con_X5_doesMove : Con_ yX5_doesMove (ws_ yX5_doesMove cX5_doesMove 2 (some .boolean)) 1 20 F_X5_doesMove := Con_of (by decide +kernel) bs_X5_doesMove_b0
/-- LongerHalf$Pull.strain(II)I -/
abbrev M_X5_strain : MM := (yX5_strain, cX5_strain, (some .int), 2, 41, 4, [])
theorem pd_X5_strain : (yX5_strain.cls ≠ "java/lang/invoke/MethodHandle" ∧ yX5_strain.cls ≠ "java/lang/invoke/VarHandle") ∧ (parseMethodDescriptor yX5_strain.desc).map (fun d => d.parameters.length) = some 2 := ⟨⟨by decide +kernel, by decide +kernel⟩, by decide +kernel⟩
noncomputable def F_X5_strain_b0 : KK OO :=
  op_ald 0 <| op_gfr [14] 45 <| op_ild 1 <| op_iald 1 <| op_ild 2 <| op_i2 (fun x y => x - y) <| op_ist 3 <| op_ild 3 <| op_igt (op_ald 0 <| op_gfr [14] 44 <| op_push (.int 0) <| op_aald 6 <| op_gfi [21, 22, 23, 24] 89 <| op_ald 0 <| op_gfr [14] 44 <| op_push (.int 1) <| op_aald 6 <| op_gfi [21, 22, 23, 24] 89 <| op_i2 (fun x y => x + y) <| op_ild 3 <| op_i2 (fun x y => x * y) <| op_ald 0 <| op_ild 1 <| op_call 2 (f_kd 14 F_X5_doesMove) kx_no <| op_ieq (op_push (.int 0) <| op_i2 (fun x y => x + y) <| op_iret .int) (op_ald 0 <| op_gfr [14] 46 <| op_gfi [17] 74 <| op_i2 (fun x y => x + y) <| op_iret .int)) (op_push (.int 0) <| op_iret .int)
theorem bs_X5_strain_b0 : B_S M_X5_strain 0 (F_X5_strain_b0) z_O k_O := by
  unfold F_X5_strain_b0
  refine BS_aload_n dX5_strain_0 rfl ?_
  refine BS_gfr f_X5_17 dX5_strain_1 ?_
  refine BS_iload_n dX5_strain_4 rfl ?_
  refine BS_iaload dX5_strain_5 ?_
  refine BS_iload_n dX5_strain_6 rfl ?_
  refine BS_isub dX5_strain_7 ?_
  refine BS_istore_n dX5_strain_8 rfl (Nat.le_of_ble_eq_true rfl) ?_
  refine BS_iload_n dX5_strain_9 rfl ?_
  refine BS_if_gt (tgt := 17) dX5_strain_10 (by decide) ?_ ?_
  · refine BS_aload_n dX5_strain_17 rfl ?_
    refine BS_gfr f_X5_11 dX5_strain_18 ?_
    refine BS_iconst dX5_strain_21 (by decide) ?_
    refine BS_aaload dX5_strain_22 (by decide) (by decide) (C := "LongerHalf$Person") rfl ?_
    refine BS_gfi f_X5_73 dX5_strain_23 ?_
    refine BS_aload_n dX5_strain_26 rfl ?_
    refine BS_gfr f_X5_11 dX5_strain_27 ?_
    refine BS_iconst dX5_strain_30 (by decide) ?_
    refine BS_aaload dX5_strain_31 (by decide) (by decide) (C := "LongerHalf$Person") rfl ?_
    refine BS_gfi f_X5_73 dX5_strain_32 ?_
    refine BS_iadd dX5_strain_35 ?_
    refine BS_iload_n dX5_strain_36 rfl ?_
    refine BS_imul dX5_strain_37 ?_
    refine BS_aload_n dX5_strain_38 rfl ?_
    refine BS_iload_n dX5_strain_39 rfl ?_
    refine BS_call (run_V dX5_strain_40 con_X5_doesMove (ci := 4) rfl rfl q1204 q1206 qs38 q143 q1207 pd_X5_doesMove ⟨Nat.le_of_ble_eq_true rfl, Nat.le_of_ble_eq_true rfl⟩) BV_no ?_
    refine BS_if_eq (tgt := 56) dX5_strain_43 (by decide) ?_ ?_
    · refine BS_iconst dX5_strain_56 (by decide) ?_
      refine BS_iadd dX5_strain_57 ?_
      exact BS_ireturn dX5_strain_58 rfl
    · refine BS_aload_n dX5_strain_46 rfl ?_
      refine BS_gfr f_X5_21 dX5_strain_47 ?_
      refine BS_gfi f_X5_80 dX5_strain_50 ?_
      refine BS_goto (tgt := 57) dX5_strain_53 (by decide) ?_
      refine BS_iadd dX5_strain_57 ?_
      exact BS_ireturn dX5_strain_58 rfl
  · refine BS_iconst dX5_strain_13 (by decide) ?_
    refine BS_goto (tgt := 58) dX5_strain_14 (by decide) ?_
    exact BS_ireturn dX5_strain_58 rfl
noncomputable def F_X5_strain : FF := mk_F 4 F_X5_strain_b0
theorem con_X5_strain : Con_ yX5_strain (ws_ yX5_strain cX5_strain 4 (some .int)) 2 41 F_X5_strain := Con_of (by decide +kernel) bs_X5_strain_b0
/-- LongerHalf$Pull.compare(IIII)I -/
abbrev M_X5_compare : MM := (yX5_compare, cX5_compare, (some .int), 3, 64, 5, [])
theorem pd_X5_compare : (yX5_compare.cls ≠ "java/lang/invoke/MethodHandle" ∧ yX5_compare.cls ≠ "java/lang/invoke/VarHandle") ∧ (parseMethodDescriptor yX5_compare.desc).map (fun d => d.parameters.length) = some 4 := ⟨⟨by decide +kernel, by decide +kernel⟩, by decide +kernel⟩
noncomputable def F_X5_compare_b0 : KK OO :=
  op_ald 0 <| op_ild 1 <| op_ild 2 <| op_call 3 (f_kd 14 F_X5_strain) kx_no <| op_ald 0 <| op_ild 3 <| op_ild 4 <| op_ald 0 <| op_gfr [14] 44 <| op_ild 3 <| op_aald 6 <| op_call 4 (f_kd 14 F_X5_strength) kx_no <| op_i2 (fun x y => x * y) <| op_ald 0 <| op_ild 3 <| op_ild 4 <| op_call 3 (f_kd 14 F_X5_strain) kx_no <| op_ald 0 <| op_ild 1 <| op_ild 2 <| op_ald 0 <| op_gfr [14] 44 <| op_ild 1 <| op_aald 6 <| op_call 4 (f_kd 14 F_X5_strength) kx_no <| op_i2 (fun x y => x * y) <| op_call 2 F_J8_compare kx_no <| op_iret .int
theorem bs_X5_compare_b0 : B_S M_X5_compare 0 (F_X5_compare_b0) z_O k_O := by
  unfold F_X5_compare_b0
  refine BS_aload_n dX5_compare_0 rfl ?_
  refine BS_iload_n dX5_compare_1 rfl ?_
  refine BS_iload_n dX5_compare_2 rfl ?_
  refine BS_call (run_V dX5_compare_3 con_X5_strain (ci := 4) rfl rfl q1231 q1201 q1202 q143 q1203 pd_X5_strain ⟨Nat.le_of_ble_eq_true rfl, Nat.le_of_ble_eq_true rfl⟩) BV_no ?_
  refine BS_aload_n dX5_compare_6 rfl ?_
  refine BS_iload_n dX5_compare_7 rfl ?_
  refine BS_iload dX5_compare_8 ?_
  refine BS_aload_n dX5_compare_10 rfl ?_
  refine BS_gfr f_X5_11 dX5_compare_11 ?_
  refine BS_iload_n dX5_compare_14 rfl ?_
  refine BS_aaload dX5_compare_15 (by decide) (by decide) (C := "LongerHalf$Person") rfl ?_
  refine BS_call (run_V dX5_compare_16 con_X5_strength (ci := 4) rfl rfl q1232 q1162 q1163 q143 q1164 pd_X5_strength ⟨Nat.le_of_ble_eq_true rfl, Nat.le_of_ble_eq_true rfl⟩) BV_no ?_
  refine BS_imul dX5_compare_19 ?_
  refine BS_aload_n dX5_compare_20 rfl ?_
  refine BS_iload_n dX5_compare_21 rfl ?_
  refine BS_iload dX5_compare_22 ?_
  refine BS_call (run_V dX5_compare_24 con_X5_strain (ci := 4) rfl rfl q1231 q1201 q1202 q143 q1203 pd_X5_strain ⟨Nat.le_of_ble_eq_true rfl, Nat.le_of_ble_eq_true rfl⟩) BV_no ?_
  refine BS_aload_n dX5_compare_27 rfl ?_
  refine BS_iload_n dX5_compare_28 rfl ?_
  refine BS_iload_n dX5_compare_29 rfl ?_
  refine BS_aload_n dX5_compare_30 rfl ?_
  refine BS_gfr f_X5_11 dX5_compare_31 ?_
  refine BS_iload_n dX5_compare_34 rfl ?_
  refine BS_aaload dX5_compare_35 (by decide) (by decide) (C := "LongerHalf$Person") rfl ?_
  refine BS_call (run_V dX5_compare_36 con_X5_strength (ci := 4) rfl rfl q1232 q1162 q1163 q143 q1164 pd_X5_strength ⟨Nat.le_of_ble_eq_true rfl, Nat.le_of_ble_eq_true rfl⟩) BV_no ?_
  refine BS_imul dX5_compare_39 ?_
  refine BS_call (run_S dX5_compare_40 con_J8_compare q1237 q1238 q164 q1239 pd_J8_compare ⟨Nat.le_of_ble_eq_true rfl, Nat.le_of_ble_eq_true rfl⟩) BV_no ?_
  exact BS_ireturn dX5_compare_43 rfl
noncomputable def F_X5_compare : FF := mk_F 5 F_X5_compare_b0
theorem con_X5_compare : Con_ yX5_compare (ws_ yX5_compare cX5_compare 5 (some .int)) 3 64 F_X5_compare := Con_of (by decide +kernel) bs_X5_compare_b0
/-- LongerHalf$Pull.weakest(I)I -/
abbrev M_X5_weakest : MM := (yX5_weakest, cX5_weakest, (some .int), 4, 88, 4, [])
theorem pd_X5_weakest : (yX5_weakest.cls ≠ "java/lang/invoke/MethodHandle" ∧ yX5_weakest.cls ≠ "java/lang/invoke/VarHandle") ∧ (parseMethodDescriptor yX5_weakest.desc).map (fun d => d.parameters.length) = some 1 := ⟨⟨by decide +kernel, by decide +kernel⟩, by decide +kernel⟩
noncomputable def F_X5_weakest_l4 : KK (L_S ⊕ OO) :=
  op_ild 3 <| op_ald 0 <| op_gfr [14] 47 <| op_ild 1 <| op_call 2 (f_or (f_kd 18 F_X11_size) (f_or (f_kd 19 F_X11_size) (f_kd 20 F_X11_size))) kx_no <| op_cge (op_exit <| op_ild 2 <| op_iret .int) (op_ald 0 <| op_ild 1 <| op_ild 3 <| op_call 3 (f_kd 14 F_X5_strain) kx_no <| op_ald 0 <| op_ild 1 <| op_ild 3 <| op_ald 0 <| op_gfr [14] 44 <| op_ild 1 <| op_aald 6 <| op_call 4 (f_kd 14 F_X5_strength) kx_no <| op_cgt (op_ild 2 <| op_push (.int (-1)) <| op_ceq (op_ild 3 <| op_ist 2 <| op_iinc 3 1 <| op_back) (op_ald 0 <| op_ild 1 <| op_ild 3 <| op_ild 1 <| op_ild 2 <| op_call 5 (f_kd 14 F_X5_compare) kx_no <| op_ile (op_iinc 3 1 <| op_back) (op_ild 3 <| op_ist 2 <| op_iinc 3 1 <| op_back))) (op_iinc 3 1 <| op_back))
theorem bs_X5_weakest_l4 : B_S M_X5_weakest 4 (F_X5_weakest_l4) (z_L z_O) (k_L 4 k_O) := by
  unfold F_X5_weakest_l4
  refine BS_iload_n dX5_weakest_4 rfl ?_
  refine BS_aload_n dX5_weakest_5 rfl ?_
  refine BS_gfr f_X5_25 dX5_weakest_6 ?_
  refine BS_iload_n dX5_weakest_9 rfl ?_
  refine BS_call ((run_or (run_U dX5_weakest_10 con_X11_size (ci := 8) rfl q1230 q888 q891 q887 q154 q892 (Or.inl ⟨_, _, _, q887, q892⟩) pu_Bo_size ⟨Nat.le_of_ble_eq_true rfl, Nat.le_of_ble_eq_true rfl⟩) (run_or (run_U dX5_weakest_10 con_X11_size (ci := 9) rfl q1230 q888 q890 q887 q154 q892 (Or.inl ⟨_, _, _, q887, q892⟩) pu_Bo_size ⟨Nat.le_of_ble_eq_true rfl, Nat.le_of_ble_eq_true rfl⟩) (run_U dX5_weakest_10 con_X11_size (ci := 10) rfl q1230 q888 q889 q887 q154 q892 (Or.inl ⟨_, _, _, q887, q892⟩) pu_Bo_size ⟨Nat.le_of_ble_eq_true rfl, Nat.le_of_ble_eq_true rfl⟩)))) BV_no ?_
  refine BS_icmp_ge (tgt := 64) dX5_weakest_13 (by decide) ?_ ?_
  · refine BS_exit ?_
    refine BS_iload_n dX5_weakest_64 rfl ?_
    exact BS_ireturn dX5_weakest_65 rfl
  · refine BS_aload_n dX5_weakest_16 rfl ?_
    refine BS_iload_n dX5_weakest_17 rfl ?_
    refine BS_iload_n dX5_weakest_18 rfl ?_
    refine BS_call (run_V dX5_weakest_19 con_X5_strain (ci := 4) rfl rfl q1231 q1201 q1202 q143 q1203 pd_X5_strain ⟨Nat.le_of_ble_eq_true rfl, Nat.le_of_ble_eq_true rfl⟩) BV_no ?_
    refine BS_aload_n dX5_weakest_22 rfl ?_
    refine BS_iload_n dX5_weakest_23 rfl ?_
    refine BS_iload_n dX5_weakest_24 rfl ?_
    refine BS_aload_n dX5_weakest_25 rfl ?_
    refine BS_gfr f_X5_11 dX5_weakest_26 ?_
    refine BS_iload_n dX5_weakest_29 rfl ?_
    refine BS_aaload dX5_weakest_30 (by decide) (by decide) (C := "LongerHalf$Person") rfl ?_
    refine BS_call (run_V dX5_weakest_31 con_X5_strength (ci := 4) rfl rfl q1232 q1162 q1163 q143 q1164 pd_X5_strength ⟨Nat.le_of_ble_eq_true rfl, Nat.le_of_ble_eq_true rfl⟩) BV_no ?_
    refine BS_icmp_gt (tgt := 40) dX5_weakest_34 (by decide) ?_ ?_
    · refine BS_iload_n dX5_weakest_40 rfl ?_
      refine BS_iconst dX5_weakest_41 (by decide) ?_
      refine BS_icmp_eq (tgt := 56) dX5_weakest_42 (by decide) ?_ ?_
      · refine BS_iload_n dX5_weakest_56 rfl ?_
        refine BS_istore_n dX5_weakest_57 rfl (Nat.le_of_ble_eq_true rfl) ?_
        refine BS_iinc dX5_weakest_58 (by decide) (Nat.le_of_ble_eq_true rfl) ?_
        refine BS_goto (tgt := 4) dX5_weakest_61 (by decide) ?_
        exact BS_back
      · refine BS_aload_n dX5_weakest_45 rfl ?_
        refine BS_iload_n dX5_weakest_46 rfl ?_
        refine BS_iload_n dX5_weakest_47 rfl ?_
        refine BS_iload_n dX5_weakest_48 rfl ?_
        refine BS_iload_n dX5_weakest_49 rfl ?_
        refine BS_call (run_V dX5_weakest_50 con_X5_compare (ci := 4) rfl rfl q1233 q1235 qs40 q143 q1236 pd_X5_compare ⟨Nat.le_of_ble_eq_true rfl, Nat.le_of_ble_eq_true rfl⟩) BV_no ?_
        refine BS_if_le (tgt := 58) dX5_weakest_53 (by decide) ?_ ?_
        · refine BS_iinc dX5_weakest_58 (by decide) (Nat.le_of_ble_eq_true rfl) ?_
          refine BS_goto (tgt := 4) dX5_weakest_61 (by decide) ?_
          exact BS_back
        · refine BS_iload_n dX5_weakest_56 rfl ?_
          refine BS_istore_n dX5_weakest_57 rfl (Nat.le_of_ble_eq_true rfl) ?_
          refine BS_iinc dX5_weakest_58 (by decide) (Nat.le_of_ble_eq_true rfl) ?_
          refine BS_goto (tgt := 4) dX5_weakest_61 (by decide) ?_
          exact BS_back
    · refine BS_goto (tgt := 58) dX5_weakest_37 (by decide) ?_
      refine BS_iinc dX5_weakest_58 (by decide) (Nat.le_of_ble_eq_true rfl) ?_
      refine BS_goto (tgt := 4) dX5_weakest_61 (by decide) ?_
      exact BS_back
noncomputable def F_X5_weakest_b4 : KK OO := op_loop (F_X5_weakest_l4)
theorem bs_X5_weakest_b4 : B_S M_X5_weakest 4 (F_X5_weakest_b4) z_O k_O := BS_loop (bs_X5_weakest_l4)
noncomputable def F_X5_weakest_b0 : KK OO :=
  op_push (.int (-1)) <| op_ist 2 <| op_push (.int 0) <| op_ist 3 <| F_X5_weakest_b4
theorem bs_X5_weakest_b0 : B_S M_X5_weakest 0 (F_X5_weakest_b0) z_O k_O := by
  unfold F_X5_weakest_b0
  refine BS_iconst dX5_weakest_0 (by decide) ?_
  refine BS_istore_n dX5_weakest_1 rfl (Nat.le_of_ble_eq_true rfl) ?_
  refine BS_iconst dX5_weakest_2 (by decide) ?_
  refine BS_istore_n dX5_weakest_3 rfl (Nat.le_of_ble_eq_true rfl) ?_
  exact bs_X5_weakest_b4
noncomputable def F_X5_weakest : FF := mk_F 4 F_X5_weakest_b0
theorem con_X5_weakest : Con_ yX5_weakest (ws_ yX5_weakest cX5_weakest 4 (some .int)) 4 88 F_X5_weakest := Con_of (by decide +kernel) bs_X5_weakest_b0
/-- LongerHalf$Pull.comes()I -/
abbrev M_X5_comes : MM := (yX5_comes, cX5_comes, (some .int), 5, 111, 4, [])
theorem pd_X5_comes : (yX5_comes.cls ≠ "java/lang/invoke/MethodHandle" ∧ yX5_comes.cls ≠ "java/lang/invoke/VarHandle") ∧ (parseMethodDescriptor yX5_comes.desc).map (fun d => d.parameters.length) = some 0 := ⟨⟨by decide +kernel, by decide +kernel⟩, by decide +kernel⟩
noncomputable def F_X5_comes_b101 : KK OO :=
  op_pfi .int [14] 54 <| op_ild 3 <| op_ile (op_push (.int 0) <| op_iret .int) (op_push (.int 1) <| op_iret .int)
theorem bs_X5_comes_b101 : B_S M_X5_comes 101 (F_X5_comes_b101) z_O k_O := by
  unfold F_X5_comes_b101
  refine BS_pfi p_X5_111 (fun h => by cases h) dX5_comes_101 ?_
  refine BS_iload_n dX5_comes_104 rfl ?_
  refine BS_if_le (tgt := 112) dX5_comes_105 (by decide) ?_ ?_
  · refine BS_iconst dX5_comes_112 (by decide) ?_
    exact BS_ireturn dX5_comes_113 rfl
  · refine BS_iconst dX5_comes_108 (by decide) ?_
    refine BS_goto (tgt := 113) dX5_comes_109 (by decide) ?_
    exact BS_ireturn dX5_comes_113 rfl
noncomputable def F_X5_comes_b88 : KK OO :=
  op_pfi .int [14] 53 <| op_ald 0 <| op_ild 3 <| op_ile (op_ild 2 <| F_X5_comes_b101) (op_ild 1 <| F_X5_comes_b101)
theorem bs_X5_comes_b88 : B_S M_X5_comes 88 (F_X5_comes_b88) z_O k_O := by
  unfold F_X5_comes_b88
  refine BS_pfi p_X5_108 (fun h => by cases h) dX5_comes_88 ?_
  refine BS_aload_n dX5_comes_91 rfl ?_
  refine BS_iload_n dX5_comes_92 rfl ?_
  refine BS_if_le (tgt := 100) dX5_comes_93 (by decide) ?_ ?_
  · refine BS_iload_n dX5_comes_100 rfl ?_
    exact bs_X5_comes_b101
  · refine BS_iload_n dX5_comes_96 rfl ?_
    refine BS_goto (tgt := 101) dX5_comes_97 (by decide) ?_
    exact bs_X5_comes_b101
noncomputable def F_X5_comes_b71 : KK OO :=
  op_ist 3 <| op_ild 3 <| op_ine (op_ald 0 <| op_ild 3 <| op_ile (op_push (.int 1) <| F_X5_comes_b88) (op_push (.int 0) <| F_X5_comes_b88)) (op_push (.int 2) <| op_iret .int)
theorem bs_X5_comes_b71 : B_S M_X5_comes 71 (F_X5_comes_b71) z_O k_O := by
  unfold F_X5_comes_b71
  refine BS_istore_n dX5_comes_71 rfl (Nat.le_of_ble_eq_true rfl) ?_
  refine BS_iload_n dX5_comes_72 rfl ?_
  refine BS_if_ne (tgt := 78) dX5_comes_73 (by decide) ?_ ?_
  · refine BS_aload_n dX5_comes_78 rfl ?_
    refine BS_iload_n dX5_comes_79 rfl ?_
    refine BS_if_le (tgt := 87) dX5_comes_80 (by decide) ?_ ?_
    · refine BS_iconst dX5_comes_87 (by decide) ?_
      exact bs_X5_comes_b88
    · refine BS_iconst dX5_comes_83 (by decide) ?_
      refine BS_goto (tgt := 88) dX5_comes_84 (by decide) ?_
      exact bs_X5_comes_b88
  · refine BS_iconst dX5_comes_76 (by decide) ?_
    exact BS_ireturn dX5_comes_77 rfl
noncomputable def F_X5_comes_b45 : KK OO :=
  op_ild 1 <| op_push (.int (-1)) <| op_cne (op_ild 2 <| op_push (.int (-1)) <| op_cne (op_ald 0 <| op_push (.int 0) <| op_ild 1 <| op_push (.int 1) <| op_ild 2 <| op_call 5 (f_kd 14 F_X5_compare) kx_no <| F_X5_comes_b71) (op_push (.int 1) <| F_X5_comes_b71)) (op_push (.int (-1)) <| F_X5_comes_b71)
theorem bs_X5_comes_b45 : B_S M_X5_comes 45 (F_X5_comes_b45) z_O k_O := by
  unfold F_X5_comes_b45
  refine BS_iload_n dX5_comes_45 rfl ?_
  refine BS_iconst dX5_comes_46 (by decide) ?_
  refine BS_icmp_ne (tgt := 54) dX5_comes_47 (by decide) ?_ ?_
  · refine BS_iload_n dX5_comes_54 rfl ?_
    refine BS_iconst dX5_comes_55 (by decide) ?_
    refine BS_icmp_ne (tgt := 63) dX5_comes_56 (by decide) ?_ ?_
    · refine BS_aload_n dX5_comes_63 rfl ?_
      refine BS_iconst dX5_comes_64 (by decide) ?_
      refine BS_iload_n dX5_comes_65 rfl ?_
      refine BS_iconst dX5_comes_66 (by decide) ?_
      refine BS_iload_n dX5_comes_67 rfl ?_
      refine BS_call (run_V dX5_comes_68 con_X5_compare (ci := 4) rfl rfl q1233 q1235 qs40 q143 q1236 pd_X5_compare ⟨Nat.le_of_ble_eq_true rfl, Nat.le_of_ble_eq_true rfl⟩) BV_no ?_
      exact bs_X5_comes_b71
    · refine BS_iconst dX5_comes_59 (by decide) ?_
      refine BS_goto (tgt := 71) dX5_comes_60 (by decide) ?_
      exact bs_X5_comes_b71
  · refine BS_iconst dX5_comes_50 (by decide) ?_
    refine BS_goto (tgt := 71) dX5_comes_51 (by decide) ?_
    exact bs_X5_comes_b71
noncomputable def F_X5_comes_b0 : KK OO :=
  op_ald 0 <| op_push (.int 0) <| op_call 2 (f_kd 14 F_X5_weakest) kx_no <| op_ist 1 <| op_ald 0 <| op_push (.int 1) <| op_call 2 (f_kd 14 F_X5_weakest) kx_no <| op_ist 2 <| op_ald 0 <| op_gfi [14] 48 <| op_ine (op_push (.int 3) <| op_iret .int) (op_ald 0 <| op_gfi [14] 49 <| op_ald 0 <| op_gfr [14] 46 <| op_gfi [17] 72 <| op_clt (op_push (.int 3) <| op_iret .int) (op_ild 1 <| op_push (.int (-1)) <| op_cne (F_X5_comes_b45) (op_ild 2 <| op_push (.int (-1)) <| op_cne (F_X5_comes_b45) (op_push (.int 3) <| op_iret .int))))
theorem bs_X5_comes_b0 : B_S M_X5_comes 0 (F_X5_comes_b0) z_O k_O := by
  unfold F_X5_comes_b0
  refine BS_aload_n dX5_comes_0 rfl ?_
  refine BS_iconst dX5_comes_1 (by decide) ?_
  refine BS_call (run_V dX5_comes_2 con_X5_weakest (ci := 4) rfl rfl q1226 q1228 qs39 q143 q1229 pd_X5_weakest ⟨Nat.le_of_ble_eq_true rfl, Nat.le_of_ble_eq_true rfl⟩) BV_no ?_
  refine BS_istore_n dX5_comes_5 rfl (Nat.le_of_ble_eq_true rfl) ?_
  refine BS_aload_n dX5_comes_6 rfl ?_
  refine BS_iconst dX5_comes_7 (by decide) ?_
  refine BS_call (run_V dX5_comes_8 con_X5_weakest (ci := 4) rfl rfl q1226 q1228 qs39 q143 q1229 pd_X5_weakest ⟨Nat.le_of_ble_eq_true rfl, Nat.le_of_ble_eq_true rfl⟩) BV_no ?_
  refine BS_istore_n dX5_comes_11 rfl (Nat.le_of_ble_eq_true rfl) ?_
  refine BS_aload_n dX5_comes_12 rfl ?_
  refine BS_gfi f_X5_33 dX5_comes_13 ?_
  refine BS_if_ne (tgt := 43) dX5_comes_16 (by decide) ?_ ?_
  · refine BS_iconst dX5_comes_43 (by decide) ?_
    exact BS_ireturn dX5_comes_44 rfl
  · refine BS_aload_n dX5_comes_19 rfl ?_
    refine BS_gfi f_X5_29 dX5_comes_20 ?_
    refine BS_aload_n dX5_comes_23 rfl ?_
    refine BS_gfr f_X5_21 dX5_comes_24 ?_
    refine BS_gfi f_X5_105 dX5_comes_27 ?_
    refine BS_icmp_lt (tgt := 43) dX5_comes_30 (by decide) ?_ ?_
    · refine BS_iconst dX5_comes_43 (by decide) ?_
      exact BS_ireturn dX5_comes_44 rfl
    · refine BS_iload_n dX5_comes_33 rfl ?_
      refine BS_iconst dX5_comes_34 (by decide) ?_
      refine BS_icmp_ne (tgt := 45) dX5_comes_35 (by decide) ?_ ?_
      · exact bs_X5_comes_b45
      · refine BS_iload_n dX5_comes_38 rfl ?_
        refine BS_iconst dX5_comes_39 (by decide) ?_
        refine BS_icmp_ne (tgt := 45) dX5_comes_40 (by decide) ?_ ?_
        · exact bs_X5_comes_b45
        · refine BS_iconst dX5_comes_43 (by decide) ?_
          exact BS_ireturn dX5_comes_44 rfl
noncomputable def F_X5_comes : FF := mk_F 4 F_X5_comes_b0
theorem con_X5_comes : Con_ yX5_comes (ws_ yX5_comes cX5_comes 4 (some .int)) 5 111 F_X5_comes := Con_of (by decide +kernel) bs_X5_comes_b0
/-- LongerHalf$Pull.flaw(II)V -/
abbrev M_X5_flaw : MM := (yX5_flaw, cX5_flaw, none, 0, 0, 3, [])
theorem pd_X5_flaw : (yX5_flaw.cls ≠ "java/lang/invoke/MethodHandle" ∧ yX5_flaw.cls ≠ "java/lang/invoke/VarHandle") ∧ (parseMethodDescriptor yX5_flaw.desc).map (fun d => d.parameters.length) = some 2 := ⟨⟨by decide +kernel, by decide +kernel⟩, by decide +kernel⟩
noncomputable def F_X5_flaw_b0 : KK OO :=
  op_ald 0 <| op_ild 1 <| op_pfi .int [14] 51 <| op_ald 0 <| op_ild 2 <| op_pfi .int [14] 52 <| op_vret
theorem bs_X5_flaw_b0 : B_S M_X5_flaw 0 (F_X5_flaw_b0) z_O k_O := by
  unfold F_X5_flaw_b0
  refine BS_aload_n dX5_flaw_0 rfl ?_
  refine BS_iload_n dX5_flaw_1 rfl ?_
  refine BS_pfi p_X5_37 (fun h => by cases h) dX5_flaw_2 ?_
  refine BS_aload_n dX5_flaw_5 rfl ?_
  refine BS_iload_n dX5_flaw_6 rfl ?_
  refine BS_pfi p_X5_49 (fun h => by cases h) dX5_flaw_7 ?_
  exact BS_return dX5_flaw_10 rfl
noncomputable def F_X5_flaw : FF := mk_F 3 F_X5_flaw_b0
theorem con_X5_flaw : Con_ yX5_flaw (ws_ yX5_flaw cX5_flaw 3 none) 0 0 F_X5_flaw := Con_of (by decide +kernel) bs_X5_flaw_b0
/-- LongerHalf$Pull.all()J -/
abbrev M_X5_all : MM := (yX5_all, cX5_all, (some .long), 1, 20, 1, [])
theorem pd_X5_all : (yX5_all.cls ≠ "java/lang/invoke/MethodHandle" ∧ yX5_all.cls ≠ "java/lang/invoke/VarHandle") ∧ (parseMethodDescriptor yX5_all.desc).map (fun d => d.parameters.length) = some 0 := ⟨⟨by decide +kernel, by decide +kernel⟩, by decide +kernel⟩
noncomputable def F_X5_all_b0 : KK OO :=
  op_push (.long 100) <| op_ald 0 <| op_gfr [14] 47 <| op_call 1 (f_or (f_kd 18 F_X11_places) (f_or (f_kd 19 F_X11_places) (f_kd 20 F_X11_places))) kx_no <| op_i2l <| op_l2 (fun x y => x * y) <| op_lret
theorem bs_X5_all_b0 : B_S M_X5_all 0 (F_X5_all_b0) z_O k_O := by
  unfold F_X5_all_b0
  refine BS_ldc2 dX5_all_0 q1273 ?_
  refine BS_aload_n dX5_all_3 rfl ?_
  refine BS_gfr f_X5_25 dX5_all_4 ?_
  refine BS_call ((run_or (run_U dX5_all_7 con_X11_places (ci := 8) rfl q1261 q1263 q1266 q1262 q154 q1267 (Or.inl ⟨_, _, _, q1262, q1267⟩) pu_Bo_places ⟨Nat.le_of_ble_eq_true rfl, Nat.le_of_ble_eq_true rfl⟩) (run_or (run_U dX5_all_7 con_X11_places (ci := 9) rfl q1261 q1263 q1265 q1262 q154 q1267 (Or.inl ⟨_, _, _, q1262, q1267⟩) pu_Bo_places ⟨Nat.le_of_ble_eq_true rfl, Nat.le_of_ble_eq_true rfl⟩) (run_U dX5_all_7 con_X11_places (ci := 10) rfl q1261 q1263 q1264 q1262 q154 q1267 (Or.inl ⟨_, _, _, q1262, q1267⟩) pu_Bo_places ⟨Nat.le_of_ble_eq_true rfl, Nat.le_of_ble_eq_true rfl⟩)))) BV_no ?_
  refine BS_i2l dX5_all_10 ?_
  refine BS_lmul dX5_all_11 ?_
  exact BS_lreturn dX5_all_12 rfl
noncomputable def F_X5_all : FF := mk_F 1 F_X5_all_b0
theorem con_X5_all : Con_ yX5_all (ws_ yX5_all cX5_all 1 (some .long)) 1 20 F_X5_all := Con_of (by decide +kernel) bs_X5_all_b0
/-- LongerHalf$Pull.odds(I)J -/
abbrev M_X5_odds : MM := (yX5_odds, cX5_odds, (some .long), 6, 134, 6, [])
theorem pd_X5_odds : (yX5_odds.cls ≠ "java/lang/invoke/MethodHandle" ∧ yX5_odds.cls ≠ "java/lang/invoke/VarHandle") ∧ (parseMethodDescriptor yX5_odds.desc).map (fun d => d.parameters.length) = some 1 := ⟨⟨by decide +kernel, by decide +kernel⟩, by decide +kernel⟩
noncomputable def F_X5_odds_l50 : KK (L_S ⊕ (L_S ⊕ OO)) :=
  op_ild 5 <| op_ald 0 <| op_gfr [14] 47 <| op_ild 4 <| op_call 2 (f_or (f_kd 18 F_X11_size) (f_or (f_kd 19 F_X11_size) (f_kd 20 F_X11_size))) kx_no <| op_cge (op_exit <| op_iinc 4 1 <| op_back) (op_ald 0 <| op_ild 4 <| op_ild 5 <| op_call 3 (f_kd 14 F_X5_flaw) kx_no <| op_lld 2 <| op_ald 0 <| op_call 1 (f_kd 14 F_X5_comes) kx_no <| op_ild 1 <| op_cne (op_push (.long 0) <| op_l2 (fun x y => x + y) <| op_lst 2 <| op_iinc 5 1 <| op_back) (op_ald 0 <| op_gfr [14] 46 <| op_gfi [17] 76 <| op_i2l <| op_l2 (fun x y => x + y) <| op_lst 2 <| op_iinc 5 1 <| op_back))
theorem bs_X5_odds_l50 : B_S M_X5_odds 50 (F_X5_odds_l50) (z_L (z_L z_O)) (k_L 50 (k_L 41 k_O)) := by
  unfold F_X5_odds_l50
  refine BS_iload dX5_odds_50 ?_
  refine BS_aload_n dX5_odds_52 rfl ?_
  refine BS_gfr f_X5_25 dX5_odds_53 ?_
  refine BS_iload dX5_odds_56 ?_
  refine BS_call ((run_or (run_U dX5_odds_58 con_X11_size (ci := 8) rfl q1230 q888 q891 q887 q154 q892 (Or.inl ⟨_, _, _, q887, q892⟩) pu_Bo_size ⟨Nat.le_of_ble_eq_true rfl, Nat.le_of_ble_eq_true rfl⟩) (run_or (run_U dX5_odds_58 con_X11_size (ci := 9) rfl q1230 q888 q890 q887 q154 q892 (Or.inl ⟨_, _, _, q887, q892⟩) pu_Bo_size ⟨Nat.le_of_ble_eq_true rfl, Nat.le_of_ble_eq_true rfl⟩) (run_U dX5_odds_58 con_X11_size (ci := 10) rfl q1230 q888 q889 q887 q154 q892 (Or.inl ⟨_, _, _, q887, q892⟩) pu_Bo_size ⟨Nat.le_of_ble_eq_true rfl, Nat.le_of_ble_eq_true rfl⟩)))) BV_no ?_
  refine BS_icmp_ge (tgt := 101) dX5_odds_61 (by decide) ?_ ?_
  · refine BS_exit ?_
    refine BS_iinc dX5_odds_101 (by decide) (Nat.le_of_ble_eq_true rfl) ?_
    refine BS_goto (tgt := 41) dX5_odds_104 (by decide) ?_
    exact BS_back
  · refine BS_aload_n dX5_odds_64 rfl ?_
    refine BS_iload dX5_odds_65 ?_
    refine BS_iload dX5_odds_67 ?_
    refine BS_call (run_V dX5_odds_69 con_X5_flaw (ci := 4) rfl rfl q1268 q1249 q1250 q143 q1251 pd_X5_flaw ⟨Nat.le_of_ble_eq_true rfl, Nat.le_of_ble_eq_true rfl⟩) BV_no ?_
    refine BS_lload_n dX5_odds_72 rfl ?_
    refine BS_aload_n dX5_odds_73 rfl ?_
    refine BS_call (run_V dX5_odds_74 con_X5_comes (ci := 4) rfl rfl q1260 q1223 q1224 q143 q1225 pd_X5_comes ⟨Nat.le_of_ble_eq_true rfl, Nat.le_of_ble_eq_true rfl⟩) BV_no ?_
    refine BS_iload_n dX5_odds_77 rfl ?_
    refine BS_icmp_ne (tgt := 92) dX5_odds_78 (by decide) ?_ ?_
    · refine BS_lconst dX5_odds_92 (by decide) ?_
      refine BS_ladd dX5_odds_93 ?_
      refine BS_lstore_n dX5_odds_94 rfl (Nat.le_of_ble_eq_true rfl) ?_
      refine BS_iinc dX5_odds_95 (by decide) (Nat.le_of_ble_eq_true rfl) ?_
      refine BS_goto (tgt := 50) dX5_odds_98 (by decide) ?_
      exact BS_back
    · refine BS_aload_n dX5_odds_81 rfl ?_
      refine BS_gfr f_X5_21 dX5_odds_82 ?_
      refine BS_gfi f_X5_118 dX5_odds_85 ?_
      refine BS_i2l dX5_odds_88 ?_
      refine BS_goto (tgt := 93) dX5_odds_89 (by decide) ?_
      refine BS_ladd dX5_odds_93 ?_
      refine BS_lstore_n dX5_odds_94 rfl (Nat.le_of_ble_eq_true rfl) ?_
      refine BS_iinc dX5_odds_95 (by decide) (Nat.le_of_ble_eq_true rfl) ?_
      refine BS_goto (tgt := 50) dX5_odds_98 (by decide) ?_
      exact BS_back
noncomputable def F_X5_odds_b50 : KK (L_S ⊕ OO) := op_loop (F_X5_odds_l50)
theorem bs_X5_odds_b50 : B_S M_X5_odds 50 (F_X5_odds_b50) (z_L z_O) (k_L 41 k_O) := BS_loop (bs_X5_odds_l50)
noncomputable def F_X5_odds_l41 : KK (L_S ⊕ OO) :=
  op_ild 4 <| op_push (.int 2) <| op_cge (op_exit <| op_ald 0 <| op_push (.int (-1)) <| op_pfi .int [14] 51 <| op_lld 2 <| op_lret) (op_push (.int 0) <| op_ist 5 <| F_X5_odds_b50)
theorem bs_X5_odds_l41 : B_S M_X5_odds 41 (F_X5_odds_l41) (z_L z_O) (k_L 41 k_O) := by
  unfold F_X5_odds_l41
  refine BS_iload dX5_odds_41 ?_
  refine BS_iconst dX5_odds_43 (by decide) ?_
  refine BS_icmp_ge (tgt := 107) dX5_odds_44 (by decide) ?_ ?_
  · refine BS_exit ?_
    refine BS_aload_n dX5_odds_107 rfl ?_
    refine BS_iconst dX5_odds_108 (by decide) ?_
    refine BS_pfi p_X5_37 (fun h => by cases h) dX5_odds_109 ?_
    refine BS_lload_n dX5_odds_112 rfl ?_
    exact BS_lreturn dX5_odds_113 rfl
  · refine BS_iconst dX5_odds_47 (by decide) ?_
    refine BS_istore dX5_odds_48 (Nat.le_of_ble_eq_true rfl) ?_
    exact bs_X5_odds_b50
noncomputable def F_X5_odds_b41 : KK OO := op_loop (F_X5_odds_l41)
theorem bs_X5_odds_b41 : B_S M_X5_odds 41 (F_X5_odds_b41) z_O k_O := BS_loop (bs_X5_odds_l41)
noncomputable def F_X5_odds_b37 : KK OO :=
  op_lst 2 <| op_push (.int 0) <| op_ist 4 <| F_X5_odds_b41
theorem bs_X5_odds_b37 : B_S M_X5_odds 37 (F_X5_odds_b37) z_O k_O := by
  unfold F_X5_odds_b37
  refine BS_lstore_n dX5_odds_37 rfl (Nat.le_of_ble_eq_true rfl) ?_
  refine BS_iconst dX5_odds_38 (by decide) ?_
  refine BS_istore dX5_odds_39 (Nat.le_of_ble_eq_true rfl) ?_
  exact bs_X5_odds_b41
noncomputable def F_X5_odds_b0 : KK OO :=
  op_ald 0 <| op_push (.int (-1)) <| op_pfi .int [14] 51 <| op_ald 0 <| op_call 1 (f_kd 14 F_X5_comes) kx_no <| op_ild 1 <| op_cne (op_push (.long 0) <| F_X5_odds_b37) (op_push (.int 100) <| op_ald 0 <| op_gfr [14] 46 <| op_gfi [17] 76 <| op_i2 (fun x y => x - y) <| op_i2l <| op_ald 0 <| op_gfr [14] 47 <| op_call 1 (f_or (f_kd 18 F_X11_places) (f_or (f_kd 19 F_X11_places) (f_kd 20 F_X11_places))) kx_no <| op_i2l <| op_l2 (fun x y => x * y) <| F_X5_odds_b37)
theorem bs_X5_odds_b0 : B_S M_X5_odds 0 (F_X5_odds_b0) z_O k_O := by
  unfold F_X5_odds_b0
  refine BS_aload_n dX5_odds_0 rfl ?_
  refine BS_iconst dX5_odds_1 (by decide) ?_
  refine BS_pfi p_X5_37 (fun h => by cases h) dX5_odds_2 ?_
  refine BS_aload_n dX5_odds_5 rfl ?_
  refine BS_call (run_V dX5_odds_6 con_X5_comes (ci := 4) rfl rfl q1260 q1223 q1224 q143 q1225 pd_X5_comes ⟨Nat.le_of_ble_eq_true rfl, Nat.le_of_ble_eq_true rfl⟩) BV_no ?_
  refine BS_iload_n dX5_odds_9 rfl ?_
  refine BS_icmp_ne (tgt := 36) dX5_odds_10 (by decide) ?_ ?_
  · refine BS_lconst dX5_odds_36 (by decide) ?_
    exact bs_X5_odds_b37
  · refine BS_bipush dX5_odds_13 (by decide) ?_
    refine BS_aload_n dX5_odds_15 rfl ?_
    refine BS_gfr f_X5_21 dX5_odds_16 ?_
    refine BS_gfi f_X5_118 dX5_odds_19 ?_
    refine BS_isub dX5_odds_22 ?_
    refine BS_i2l dX5_odds_23 ?_
    refine BS_aload_n dX5_odds_24 rfl ?_
    refine BS_gfr f_X5_25 dX5_odds_25 ?_
    refine BS_call ((run_or (run_U dX5_odds_28 con_X11_places (ci := 8) rfl q1261 q1263 q1266 q1262 q154 q1267 (Or.inl ⟨_, _, _, q1262, q1267⟩) pu_Bo_places ⟨Nat.le_of_ble_eq_true rfl, Nat.le_of_ble_eq_true rfl⟩) (run_or (run_U dX5_odds_28 con_X11_places (ci := 9) rfl q1261 q1263 q1265 q1262 q154 q1267 (Or.inl ⟨_, _, _, q1262, q1267⟩) pu_Bo_places ⟨Nat.le_of_ble_eq_true rfl, Nat.le_of_ble_eq_true rfl⟩) (run_U dX5_odds_28 con_X11_places (ci := 10) rfl q1261 q1263 q1264 q1262 q154 q1267 (Or.inl ⟨_, _, _, q1262, q1267⟩) pu_Bo_places ⟨Nat.le_of_ble_eq_true rfl, Nat.le_of_ble_eq_true rfl⟩)))) BV_no ?_
    refine BS_i2l dX5_odds_31 ?_
    refine BS_lmul dX5_odds_32 ?_
    refine BS_goto (tgt := 37) dX5_odds_33 (by decide) ?_
    exact bs_X5_odds_b37
noncomputable def F_X5_odds : FF := mk_F 6 F_X5_odds_b0
theorem con_X5_odds : Con_ yX5_odds (ws_ yX5_odds cX5_odds 6 (some .long)) 6 134 F_X5_odds := Con_of (by decide +kernel) bs_X5_odds_b0
/-- LongerHalf$Game.can(LLongerHalf$Person;I)Z -/
abbrev M_X6_can : MM := (yX6_can, cX6_can, (some .boolean), 1, 20, 2, [])
theorem pd_X6_can : (yX6_can.cls ≠ "java/lang/invoke/MethodHandle" ∧ yX6_can.cls ≠ "java/lang/invoke/VarHandle") ∧ (parseMethodDescriptor yX6_can.desc).map (fun d => d.parameters.length) = some 2 := ⟨⟨by decide +kernel, by decide +kernel⟩, by decide +kernel⟩
noncomputable def F_X6_can_b14 : KK OO :=
  op_push (.int 1) <| op_iret .boolean
theorem bs_X6_can_b14 : B_S M_X6_can 14 (F_X6_can_b14) z_O k_O := by
  unfold F_X6_can_b14
  refine BS_iconst dX6_can_14 (by decide) ?_
  refine BS_goto (tgt := 19) dX6_can_15 (by decide) ?_
  exact BS_ireturn dX6_can_19 rfl
noncomputable def F_X6_can_b0 : KK OO :=
  op_ild 1 <| op_push (.int 2) <| op_i2d (fun x y => x - x / y * y) <| op_push (.int 1) <| op_ceq (F_X6_can_b14) (op_ald 0 <| op_call 1 (f_or (f_kd 21 F_X15_mustMove) (f_or (f_kd 22 F_X15_mustMove) (f_or (f_kd 23 F_X18_mustMove) (f_kd 24 F_X15_mustMove)))) kx_no <| op_ine (op_push (.int 0) <| op_iret .boolean) (F_X6_can_b14))
theorem bs_X6_can_b0 : B_S M_X6_can 0 (F_X6_can_b0) z_O k_O := by
  unfold F_X6_can_b0
  refine BS_iload_n dX6_can_0 rfl ?_
  refine BS_iconst dX6_can_1 (by decide) ?_
  refine BS_irem dX6_can_2 ?_
  refine BS_iconst dX6_can_3 (by decide) ?_
  refine BS_icmp_eq (tgt := 14) dX6_can_4 (by decide) ?_ ?_
  · exact bs_X6_can_b14
  · refine BS_aload_n dX6_can_7 rfl ?_
    refine BS_call ((run_or (run_U dX6_can_8 con_X15_mustMove (ci := 11) rfl q1288 q1210 q1216 q1209 q158 q1217 (Or.inl ⟨_, _, _, q1209, q1217⟩) pu_Pe_mustMove ⟨Nat.le_of_ble_eq_true rfl, Nat.le_of_ble_eq_true rfl⟩) (run_or (run_U dX6_can_8 con_X15_mustMove (ci := 12) rfl q1288 q1210 q1215 q1209 q158 q1217 (Or.inl ⟨_, _, _, q1209, q1217⟩) pu_Pe_mustMove ⟨Nat.le_of_ble_eq_true rfl, Nat.le_of_ble_eq_true rfl⟩) (run_or (run_U dX6_can_8 con_X18_mustMove (ci := 13) rfl q1288 q1210 q1212 q1213 q161 q1214 (Or.inl ⟨_, _, _, q1209, q1217⟩) pu_Pe_mustMove ⟨Nat.le_of_ble_eq_true rfl, Nat.le_of_ble_eq_true rfl⟩) (run_U dX6_can_8 con_X15_mustMove (ci := 14) rfl q1288 q1210 q1211 q1209 q158 q1217 (Or.inl ⟨_, _, _, q1209, q1217⟩) pu_Pe_mustMove ⟨Nat.le_of_ble_eq_true rfl, Nat.le_of_ble_eq_true rfl⟩))))) BV_no ?_
    refine BS_if_ne (tgt := 18) dX6_can_11 (by decide) ?_ ?_
    · refine BS_iconst dX6_can_18 (by decide) ?_
      exact BS_ireturn dX6_can_19 rfl
    · exact bs_X6_can_b14
noncomputable def F_X6_can : FF := mk_F 2 F_X6_can_b0
theorem con_X6_can : Con_ yX6_can (ws_ yX6_can cX6_can 2 (some .boolean)) 1 20 F_X6_can := Con_of (by decide +kernel) bs_X6_can_b0
/-- LongerHalf$Game.told(I)I -/
abbrev M_X6_told : MM := (yX6_told, cX6_told, (some .int), 0, 0, 1, [])
theorem pd_X6_told : (yX6_told.cls ≠ "java/lang/invoke/MethodHandle" ∧ yX6_told.cls ≠ "java/lang/invoke/VarHandle") ∧ (parseMethodDescriptor yX6_told.desc).map (fun d => d.parameters.length) = some 1 := ⟨⟨by decide +kernel, by decide +kernel⟩, by decide +kernel⟩
noncomputable def F_X6_told_b0 : KK OO :=
  op_push (.int 10) <| op_ild 0 <| op_push (.int 2) <| op_i2d (fun x y => x / y) <| op_push (.int 1) <| op_i2 (fun x y => x + y) <| op_i2 (fun x y => x * y) <| op_ild 0 <| op_push (.int 2) <| op_i2d (fun x y => x - x / y * y) <| op_i2 (fun x y => x + y) <| op_iret .int
theorem bs_X6_told_b0 : B_S M_X6_told 0 (F_X6_told_b0) z_O k_O := by
  unfold F_X6_told_b0
  refine BS_bipush dX6_told_0 (by decide) ?_
  refine BS_iload_n dX6_told_2 rfl ?_
  refine BS_iconst dX6_told_3 (by decide) ?_
  refine BS_idiv dX6_told_4 ?_
  refine BS_iconst dX6_told_5 (by decide) ?_
  refine BS_iadd dX6_told_6 ?_
  refine BS_imul dX6_told_7 ?_
  refine BS_iload_n dX6_told_8 rfl ?_
  refine BS_iconst dX6_told_9 (by decide) ?_
  refine BS_irem dX6_told_10 ?_
  refine BS_iadd dX6_told_11 ?_
  exact BS_ireturn dX6_told_12 rfl
noncomputable def F_X6_told : FF := mk_F 1 F_X6_told_b0
theorem con_X6_told : Con_ yX6_told (ws_ yX6_told cX6_told 1 (some .int)) 0 0 F_X6_told := Con_of (by decide +kernel) bs_X6_told_b0
/-- LongerHalf$Game.lay(LLongerHalf$Bone;LLongerHalf$Person;LLongerHalf$Person;)V -/
abbrev M_X6_lay : MM := (yX6_lay, cX6_lay, none, 7, 159, 6, [])
theorem pd_X6_lay : (yX6_lay.cls ≠ "java/lang/invoke/MethodHandle" ∧ yX6_lay.cls ≠ "java/lang/invoke/VarHandle") ∧ (parseMethodDescriptor yX6_lay.desc).map (fun d => d.parameters.length) = some 3 := ⟨⟨by decide +kernel, by decide +kernel⟩, by decide +kernel⟩
noncomputable def F_X6_lay_b106 : KK (L_S ⊕ (L_S ⊕ OO)) :=
  op_call 6 (f_kd 14 F_X5_hold) kx_no <| op_ald 0 <| op_gfr [15] 55 <| op_push (.int 12) <| op_ild 4 <| op_i2 (fun x y => x * y) <| op_ild 5 <| op_i2 (fun x y => x + y) <| op_ald 0 <| op_gfr [15] 57 <| op_push (.int 0) <| op_call 2 (f_kd 14 F_X5_odds) kx_no <| op_last <| op_ald 0 <| op_gfr [15] 56 <| op_push (.int 12) <| op_ild 4 <| op_i2 (fun x y => x * y) <| op_ild 5 <| op_i2 (fun x y => x + y) <| op_ald 0 <| op_gfr [15] 57 <| op_push (.int 1) <| op_call 2 (f_kd 14 F_X5_odds) kx_no <| op_last <| op_iinc 5 1 <| op_back
theorem bs_X6_lay_b106 : B_S M_X6_lay 106 (F_X6_lay_b106) (z_L (z_L z_O)) (k_L 33 (k_L 18 k_O)) := by
  unfold F_X6_lay_b106
  refine BS_call (run_V dX6_lay_106 con_X5_hold (ci := 4) rfl rfl q1305 q1197 q1198 q143 q1199 pd_X5_hold ⟨Nat.le_of_ble_eq_true rfl, Nat.le_of_ble_eq_true rfl⟩) BV_no ?_
  refine BS_aload_n dX6_lay_109 rfl ?_
  refine BS_gfr f_X6_9 dX6_lay_110 ?_
  refine BS_bipush dX6_lay_113 (by decide) ?_
  refine BS_iload dX6_lay_115 ?_
  refine BS_imul dX6_lay_117 ?_
  refine BS_iload dX6_lay_118 ?_
  refine BS_iadd dX6_lay_120 ?_
  refine BS_aload_n dX6_lay_121 rfl ?_
  refine BS_gfr f_X6_18 dX6_lay_122 ?_
  refine BS_iconst dX6_lay_125 (by decide) ?_
  refine BS_call (run_V dX6_lay_126 con_X5_odds (ci := 4) rfl rfl q1306 q1257 q1258 q143 q1259 pd_X5_odds ⟨Nat.le_of_ble_eq_true rfl, Nat.le_of_ble_eq_true rfl⟩) BV_no ?_
  refine BS_lastore dX6_lay_129 ?_
  refine BS_aload_n dX6_lay_130 rfl ?_
  refine BS_gfr f_X6_15 dX6_lay_131 ?_
  refine BS_bipush dX6_lay_134 (by decide) ?_
  refine BS_iload dX6_lay_136 ?_
  refine BS_imul dX6_lay_138 ?_
  refine BS_iload dX6_lay_139 ?_
  refine BS_iadd dX6_lay_141 ?_
  refine BS_aload_n dX6_lay_142 rfl ?_
  refine BS_gfr f_X6_18 dX6_lay_143 ?_
  refine BS_iconst dX6_lay_146 (by decide) ?_
  refine BS_call (run_V dX6_lay_147 con_X5_odds (ci := 4) rfl rfl q1306 q1257 q1258 q143 q1259 pd_X5_odds ⟨Nat.le_of_ble_eq_true rfl, Nat.le_of_ble_eq_true rfl⟩) BV_no ?_
  refine BS_lastore dX6_lay_150 ?_
  refine BS_iinc dX6_lay_151 (by decide) (Nat.le_of_ble_eq_true rfl) ?_
  refine BS_goto (tgt := 33) dX6_lay_154 (by decide) ?_
  exact BS_back
noncomputable def F_X6_lay_b85 : KK (L_S ⊕ (L_S ⊕ OO)) :=
  op_push (.int 3) <| F_X6_lay_b106
theorem bs_X6_lay_b85 : B_S M_X6_lay 85 (F_X6_lay_b85) (z_L (z_L z_O)) (k_L 33 (k_L 18 k_O)) := by
  unfold F_X6_lay_b85
  refine BS_iconst dX6_lay_85 (by decide) ?_
  refine BS_goto (tgt := 106) dX6_lay_86 (by decide) ?_
  exact bs_X6_lay_b106
noncomputable def F_X6_lay_l33 : KK (L_S ⊕ (L_S ⊕ OO)) :=
  op_ild 5 <| op_push (.int 2) <| op_ald 1 <| op_push (.int 1) <| op_call 2 (f_or (f_kd 18 F_X11_size) (f_or (f_kd 19 F_X11_size) (f_kd 20 F_X11_size))) kx_no <| op_i2 (fun x y => x * y) <| op_cge (op_exit <| op_iinc 4 1 <| op_back) (op_ald 0 <| op_gfr [15] 57 <| op_ald 0 <| op_gfr [15] 59 <| op_ild 4 <| op_push (.int 2) <| op_i2d (fun x y => x / y) <| op_push (.int 1) <| op_i2 (fun x y => x + y) <| op_ald 0 <| op_gfr [15] 60 <| op_ild 5 <| op_push (.int 2) <| op_i2d (fun x y => x / y) <| op_push (.int 1) <| op_i2 (fun x y => x + y) <| op_ild 4 <| op_push (.int 2) <| op_i2d (fun x y => x - x / y * y) <| op_push (.int 1) <| op_cne (op_ild 5 <| op_push (.int 2) <| op_i2d (fun x y => x - x / y * y) <| op_push (.int 1) <| op_cne (op_push (.int 2) <| F_X6_lay_b106) (op_push (.int 1) <| F_X6_lay_b106)) (op_ild 5 <| op_push (.int 2) <| op_i2d (fun x y => x - x / y * y) <| op_push (.int 1) <| op_cne (op_push (.int 0) <| F_X6_lay_b106) (F_X6_lay_b85)))
theorem bs_X6_lay_l33 : B_S M_X6_lay 33 (F_X6_lay_l33) (z_L (z_L z_O)) (k_L 33 (k_L 18 k_O)) := by
  unfold F_X6_lay_l33
  refine BS_iload dX6_lay_33 ?_
  refine BS_iconst dX6_lay_35 (by decide) ?_
  refine BS_aload_n dX6_lay_36 rfl ?_
  refine BS_iconst dX6_lay_37 (by decide) ?_
  refine BS_call ((run_or (run_U dX6_lay_38 con_X11_size (ci := 8) rfl q1304 q888 q891 q887 q154 q892 (Or.inl ⟨_, _, _, q887, q892⟩) pu_Bo_size ⟨Nat.le_of_ble_eq_true rfl, Nat.le_of_ble_eq_true rfl⟩) (run_or (run_U dX6_lay_38 con_X11_size (ci := 9) rfl q1304 q888 q890 q887 q154 q892 (Or.inl ⟨_, _, _, q887, q892⟩) pu_Bo_size ⟨Nat.le_of_ble_eq_true rfl, Nat.le_of_ble_eq_true rfl⟩) (run_U dX6_lay_38 con_X11_size (ci := 10) rfl q1304 q888 q889 q887 q154 q892 (Or.inl ⟨_, _, _, q887, q892⟩) pu_Bo_size ⟨Nat.le_of_ble_eq_true rfl, Nat.le_of_ble_eq_true rfl⟩)))) BV_no ?_
  refine BS_imul dX6_lay_41 ?_
  refine BS_icmp_ge (tgt := 157) dX6_lay_42 (by decide) ?_ ?_
  · refine BS_exit ?_
    refine BS_iinc dX6_lay_157 (by decide) (Nat.le_of_ble_eq_true rfl) ?_
    refine BS_goto (tgt := 18) dX6_lay_160 (by decide) ?_
    exact BS_back
  · refine BS_aload_n dX6_lay_45 rfl ?_
    refine BS_gfr f_X6_18 dX6_lay_46 ?_
    refine BS_aload_n dX6_lay_49 rfl ?_
    refine BS_gfr f_X6_32 dX6_lay_50 ?_
    refine BS_iload dX6_lay_53 ?_
    refine BS_iconst dX6_lay_55 (by decide) ?_
    refine BS_idiv dX6_lay_56 ?_
    refine BS_iconst dX6_lay_57 (by decide) ?_
    refine BS_iadd dX6_lay_58 ?_
    refine BS_aload_n dX6_lay_59 rfl ?_
    refine BS_gfr f_X6_36 dX6_lay_60 ?_
    refine BS_iload dX6_lay_63 ?_
    refine BS_iconst dX6_lay_65 (by decide) ?_
    refine BS_idiv dX6_lay_66 ?_
    refine BS_iconst dX6_lay_67 (by decide) ?_
    refine BS_iadd dX6_lay_68 ?_
    refine BS_iload dX6_lay_69 ?_
    refine BS_iconst dX6_lay_71 (by decide) ?_
    refine BS_irem dX6_lay_72 ?_
    refine BS_iconst dX6_lay_73 (by decide) ?_
    refine BS_icmp_ne (tgt := 93) dX6_lay_74 (by decide) ?_ ?_
    · refine BS_iload dX6_lay_93 ?_
      refine BS_iconst dX6_lay_95 (by decide) ?_
      refine BS_irem dX6_lay_96 ?_
      refine BS_iconst dX6_lay_97 (by decide) ?_
      refine BS_icmp_ne (tgt := 105) dX6_lay_98 (by decide) ?_ ?_
      · refine BS_iconst dX6_lay_105 (by decide) ?_
        exact bs_X6_lay_b106
      · refine BS_iconst dX6_lay_101 (by decide) ?_
        refine BS_goto (tgt := 106) dX6_lay_102 (by decide) ?_
        exact bs_X6_lay_b106
    · refine BS_iload dX6_lay_77 ?_
      refine BS_iconst dX6_lay_79 (by decide) ?_
      refine BS_irem dX6_lay_80 ?_
      refine BS_iconst dX6_lay_81 (by decide) ?_
      refine BS_icmp_ne (tgt := 89) dX6_lay_82 (by decide) ?_ ?_
      · refine BS_iconst dX6_lay_89 (by decide) ?_
        refine BS_goto (tgt := 106) dX6_lay_90 (by decide) ?_
        exact bs_X6_lay_b106
      · exact bs_X6_lay_b85
noncomputable def F_X6_lay_b33 : KK (L_S ⊕ OO) := op_loop (F_X6_lay_l33)
theorem bs_X6_lay_b33 : B_S M_X6_lay 33 (F_X6_lay_b33) (z_L z_O) (k_L 18 k_O) := BS_loop (bs_X6_lay_l33)
noncomputable def F_X6_lay_l18 : KK (L_S ⊕ OO) :=
  op_ild 4 <| op_push (.int 2) <| op_ald 1 <| op_push (.int 0) <| op_call 2 (f_or (f_kd 18 F_X11_size) (f_or (f_kd 19 F_X11_size) (f_kd 20 F_X11_size))) kx_no <| op_i2 (fun x y => x * y) <| op_cge (op_exit <| op_vret) (op_push (.int 0) <| op_ist 5 <| F_X6_lay_b33)
theorem bs_X6_lay_l18 : B_S M_X6_lay 18 (F_X6_lay_l18) (z_L z_O) (k_L 18 k_O) := by
  unfold F_X6_lay_l18
  refine BS_iload dX6_lay_18 ?_
  refine BS_iconst dX6_lay_20 (by decide) ?_
  refine BS_aload_n dX6_lay_21 rfl ?_
  refine BS_iconst dX6_lay_22 (by decide) ?_
  refine BS_call ((run_or (run_U dX6_lay_23 con_X11_size (ci := 8) rfl q1304 q888 q891 q887 q154 q892 (Or.inl ⟨_, _, _, q887, q892⟩) pu_Bo_size ⟨Nat.le_of_ble_eq_true rfl, Nat.le_of_ble_eq_true rfl⟩) (run_or (run_U dX6_lay_23 con_X11_size (ci := 9) rfl q1304 q888 q890 q887 q154 q892 (Or.inl ⟨_, _, _, q887, q892⟩) pu_Bo_size ⟨Nat.le_of_ble_eq_true rfl, Nat.le_of_ble_eq_true rfl⟩) (run_U dX6_lay_23 con_X11_size (ci := 10) rfl q1304 q888 q889 q887 q154 q892 (Or.inl ⟨_, _, _, q887, q892⟩) pu_Bo_size ⟨Nat.le_of_ble_eq_true rfl, Nat.le_of_ble_eq_true rfl⟩)))) BV_no ?_
  refine BS_imul dX6_lay_26 ?_
  refine BS_icmp_ge (tgt := 163) dX6_lay_27 (by decide) ?_ ?_
  · refine BS_exit ?_
    exact BS_return dX6_lay_163 rfl
  · refine BS_iconst dX6_lay_30 (by decide) ?_
    refine BS_istore dX6_lay_31 (Nat.le_of_ble_eq_true rfl) ?_
    exact bs_X6_lay_b33
noncomputable def F_X6_lay_b18 : KK OO := op_loop (F_X6_lay_l18)
theorem bs_X6_lay_b18 : B_S M_X6_lay 18 (F_X6_lay_b18) z_O k_O := BS_loop (bs_X6_lay_l18)
noncomputable def F_X6_lay_b0 : KK OO :=
  op_ald 0 <| op_ald 1 <| op_pfr [15] 58 <| op_ald 0 <| op_ald 2 <| op_pfr [15] 59 <| op_ald 0 <| op_ald 3 <| op_pfr [15] 60 <| op_push (.int 0) <| op_ist 4 <| F_X6_lay_b18
theorem bs_X6_lay_b0 : B_S M_X6_lay 0 (F_X6_lay_b0) z_O k_O := by
  unfold F_X6_lay_b0
  refine BS_aload_n dX6_lay_0 rfl ?_
  refine BS_aload_n dX6_lay_1 rfl ?_
  refine BS_pfr p_X6_28 rfl (fun h => by cases h) dX6_lay_2 ?_
  refine BS_aload_n dX6_lay_5 rfl ?_
  refine BS_aload_n dX6_lay_6 rfl ?_
  refine BS_pfr p_X6_32 rfl (fun h => by cases h) dX6_lay_7 ?_
  refine BS_aload_n dX6_lay_10 rfl ?_
  refine BS_aload_n dX6_lay_11 rfl ?_
  refine BS_pfr p_X6_36 rfl (fun h => by cases h) dX6_lay_12 ?_
  refine BS_iconst dX6_lay_15 (by decide) ?_
  refine BS_istore dX6_lay_16 (Nat.le_of_ble_eq_true rfl) ?_
  exact bs_X6_lay_b18
noncomputable def F_X6_lay : FF := mk_F 6 F_X6_lay_b0
theorem con_X6_lay : Con_ yX6_lay (ws_ yX6_lay cX6_lay 6 none) 7 159 F_X6_lay := Con_of (by decide +kernel) bs_X6_lay_b0
/-- LongerHalf$Game.isRest(II)Z -/
abbrev M_X6_isRest : MM := (yX6_isRest, cX6_isRest, (some .boolean), 2, 41, 5, [])
theorem pd_X6_isRest : (yX6_isRest.cls ≠ "java/lang/invoke/MethodHandle" ∧ yX6_isRest.cls ≠ "java/lang/invoke/VarHandle") ∧ (parseMethodDescriptor yX6_isRest.desc).map (fun d => d.parameters.length) = some 2 := ⟨⟨by decide +kernel, by decide +kernel⟩, by decide +kernel⟩
noncomputable def F_X6_isRest_b136 : KK (L_S ⊕ OO) :=
  op_push (.int 1) <| op_ist 3 <| op_iinc 4 1 <| op_back
theorem bs_X6_isRest_b136 : B_S M_X6_isRest 136 (F_X6_isRest_b136) (z_L z_O) (k_L 78 k_O) := by
  unfold F_X6_isRest_b136
  refine BS_iconst dX6_isRest_136 (by decide) ?_
  refine BS_goto (tgt := 141) dX6_isRest_137 (by decide) ?_
  refine BS_istore_n dX6_isRest_141 rfl (Nat.le_of_ble_eq_true rfl) ?_
  refine BS_iinc dX6_isRest_142 (by decide) (Nat.le_of_ble_eq_true rfl) ?_
  refine BS_goto (tgt := 78) dX6_isRest_145 (by decide) ?_
  exact BS_back
noncomputable def F_X6_isRest_l78 : KK (L_S ⊕ OO) :=
  op_ild 4 <| op_push (.int 2) <| op_ald 0 <| op_gfr [15] 58 <| op_push (.int 1) <| op_call 2 (f_or (f_kd 18 F_X11_size) (f_or (f_kd 19 F_X11_size) (f_kd 20 F_X11_size))) kx_no <| op_i2 (fun x y => x * y) <| op_cge (op_exit <| op_ild 3 <| op_iret .boolean) (op_ild 3 <| op_ieq (op_push (.int 0) <| op_ist 3 <| op_iinc 4 1 <| op_back) (op_ald 0 <| op_gfr [15] 60 <| op_ild 4 <| op_call 2 F_X6_can kx_no <| op_ieq (F_X6_isRest_b136) (op_ald 0 <| op_gfr [15] 56 <| op_push (.int 12) <| op_ild 1 <| op_i2 (fun x y => x * y) <| op_ild 4 <| op_i2 (fun x y => x + y) <| op_lald <| op_ald 0 <| op_gfr [15] 56 <| op_push (.int 12) <| op_ild 1 <| op_i2 (fun x y => x * y) <| op_ild 2 <| op_i2 (fun x y => x + y) <| op_lald <| op_lcmp <| op_igt (op_push (.int 0) <| op_ist 3 <| op_iinc 4 1 <| op_back) (F_X6_isRest_b136))))
theorem bs_X6_isRest_l78 : B_S M_X6_isRest 78 (F_X6_isRest_l78) (z_L z_O) (k_L 78 k_O) := by
  unfold F_X6_isRest_l78
  refine BS_iload dX6_isRest_78 ?_
  refine BS_iconst dX6_isRest_80 (by decide) ?_
  refine BS_aload_n dX6_isRest_81 rfl ?_
  refine BS_gfr f_X6_28 dX6_isRest_82 ?_
  refine BS_iconst dX6_isRest_85 (by decide) ?_
  refine BS_call ((run_or (run_U dX6_isRest_86 con_X11_size (ci := 8) rfl q1304 q888 q891 q887 q154 q892 (Or.inl ⟨_, _, _, q887, q892⟩) pu_Bo_size ⟨Nat.le_of_ble_eq_true rfl, Nat.le_of_ble_eq_true rfl⟩) (run_or (run_U dX6_isRest_86 con_X11_size (ci := 9) rfl q1304 q888 q890 q887 q154 q892 (Or.inl ⟨_, _, _, q887, q892⟩) pu_Bo_size ⟨Nat.le_of_ble_eq_true rfl, Nat.le_of_ble_eq_true rfl⟩) (run_U dX6_isRest_86 con_X11_size (ci := 10) rfl q1304 q888 q889 q887 q154 q892 (Or.inl ⟨_, _, _, q887, q892⟩) pu_Bo_size ⟨Nat.le_of_ble_eq_true rfl, Nat.le_of_ble_eq_true rfl⟩)))) BV_no ?_
  refine BS_imul dX6_isRest_89 ?_
  refine BS_icmp_ge (tgt := 148) dX6_isRest_90 (by decide) ?_ ?_
  · refine BS_exit ?_
    refine BS_iload_n dX6_isRest_148 rfl ?_
    exact BS_ireturn dX6_isRest_149 rfl
  · refine BS_iload_n dX6_isRest_93 rfl ?_
    refine BS_if_eq (tgt := 140) dX6_isRest_94 (by decide) ?_ ?_
    · refine BS_iconst dX6_isRest_140 (by decide) ?_
      refine BS_istore_n dX6_isRest_141 rfl (Nat.le_of_ble_eq_true rfl) ?_
      refine BS_iinc dX6_isRest_142 (by decide) (Nat.le_of_ble_eq_true rfl) ?_
      refine BS_goto (tgt := 78) dX6_isRest_145 (by decide) ?_
      exact BS_back
    · refine BS_aload_n dX6_isRest_97 rfl ?_
      refine BS_gfr f_X6_36 dX6_isRest_98 ?_
      refine BS_iload dX6_isRest_101 ?_
      refine BS_call (run_S dX6_isRest_103 con_X6_can q1311 q1286 q144 q1287 pd_X6_can ⟨Nat.le_of_ble_eq_true rfl, Nat.le_of_ble_eq_true rfl⟩) BV_no ?_
      refine BS_if_eq (tgt := 136) dX6_isRest_106 (by decide) ?_ ?_
      · exact bs_X6_isRest_b136
      · refine BS_aload_n dX6_isRest_109 rfl ?_
        refine BS_gfr f_X6_15 dX6_isRest_110 ?_
        refine BS_bipush dX6_isRest_113 (by decide) ?_
        refine BS_iload_n dX6_isRest_115 rfl ?_
        refine BS_imul dX6_isRest_116 ?_
        refine BS_iload dX6_isRest_117 ?_
        refine BS_iadd dX6_isRest_119 ?_
        refine BS_laload dX6_isRest_120 ?_
        refine BS_aload_n dX6_isRest_121 rfl ?_
        refine BS_gfr f_X6_15 dX6_isRest_122 ?_
        refine BS_bipush dX6_isRest_125 (by decide) ?_
        refine BS_iload_n dX6_isRest_127 rfl ?_
        refine BS_imul dX6_isRest_128 ?_
        refine BS_iload_n dX6_isRest_129 rfl ?_
        refine BS_iadd dX6_isRest_130 ?_
        refine BS_laload dX6_isRest_131 ?_
        refine BS_lcmp dX6_isRest_132 ?_
        refine BS_if_gt (tgt := 140) dX6_isRest_133 (by decide) ?_ ?_
        · refine BS_iconst dX6_isRest_140 (by decide) ?_
          refine BS_istore_n dX6_isRest_141 rfl (Nat.le_of_ble_eq_true rfl) ?_
          refine BS_iinc dX6_isRest_142 (by decide) (Nat.le_of_ble_eq_true rfl) ?_
          refine BS_goto (tgt := 78) dX6_isRest_145 (by decide) ?_
          exact BS_back
        · exact bs_X6_isRest_b136
noncomputable def F_X6_isRest_b78 : KK OO := op_loop (F_X6_isRest_l78)
theorem bs_X6_isRest_b78 : B_S M_X6_isRest 78 (F_X6_isRest_b78) z_O k_O := BS_loop (bs_X6_isRest_l78)
noncomputable def F_X6_isRest_b63 : KK (L_S ⊕ OO) :=
  op_push (.int 1) <| op_ist 3 <| op_iinc 4 1 <| op_back
theorem bs_X6_isRest_b63 : B_S M_X6_isRest 63 (F_X6_isRest_b63) (z_L z_O) (k_L 5 k_O) := by
  unfold F_X6_isRest_b63
  refine BS_iconst dX6_isRest_63 (by decide) ?_
  refine BS_goto (tgt := 68) dX6_isRest_64 (by decide) ?_
  refine BS_istore_n dX6_isRest_68 rfl (Nat.le_of_ble_eq_true rfl) ?_
  refine BS_iinc dX6_isRest_69 (by decide) (Nat.le_of_ble_eq_true rfl) ?_
  refine BS_goto (tgt := 5) dX6_isRest_72 (by decide) ?_
  exact BS_back
noncomputable def F_X6_isRest_l5 : KK (L_S ⊕ OO) :=
  op_ild 4 <| op_push (.int 2) <| op_ald 0 <| op_gfr [15] 58 <| op_push (.int 0) <| op_call 2 (f_or (f_kd 18 F_X11_size) (f_or (f_kd 19 F_X11_size) (f_kd 20 F_X11_size))) kx_no <| op_i2 (fun x y => x * y) <| op_cge (op_exit <| op_push (.int 0) <| op_ist 4 <| F_X6_isRest_b78) (op_ild 3 <| op_ieq (op_push (.int 0) <| op_ist 3 <| op_iinc 4 1 <| op_back) (op_ald 0 <| op_gfr [15] 59 <| op_ild 4 <| op_call 2 F_X6_can kx_no <| op_ieq (F_X6_isRest_b63) (op_ald 0 <| op_gfr [15] 55 <| op_push (.int 12) <| op_ild 4 <| op_i2 (fun x y => x * y) <| op_ild 2 <| op_i2 (fun x y => x + y) <| op_lald <| op_ald 0 <| op_gfr [15] 55 <| op_push (.int 12) <| op_ild 1 <| op_i2 (fun x y => x * y) <| op_ild 2 <| op_i2 (fun x y => x + y) <| op_lald <| op_lcmp <| op_igt (op_push (.int 0) <| op_ist 3 <| op_iinc 4 1 <| op_back) (F_X6_isRest_b63))))
theorem bs_X6_isRest_l5 : B_S M_X6_isRest 5 (F_X6_isRest_l5) (z_L z_O) (k_L 5 k_O) := by
  unfold F_X6_isRest_l5
  refine BS_iload dX6_isRest_5 ?_
  refine BS_iconst dX6_isRest_7 (by decide) ?_
  refine BS_aload_n dX6_isRest_8 rfl ?_
  refine BS_gfr f_X6_28 dX6_isRest_9 ?_
  refine BS_iconst dX6_isRest_12 (by decide) ?_
  refine BS_call ((run_or (run_U dX6_isRest_13 con_X11_size (ci := 8) rfl q1304 q888 q891 q887 q154 q892 (Or.inl ⟨_, _, _, q887, q892⟩) pu_Bo_size ⟨Nat.le_of_ble_eq_true rfl, Nat.le_of_ble_eq_true rfl⟩) (run_or (run_U dX6_isRest_13 con_X11_size (ci := 9) rfl q1304 q888 q890 q887 q154 q892 (Or.inl ⟨_, _, _, q887, q892⟩) pu_Bo_size ⟨Nat.le_of_ble_eq_true rfl, Nat.le_of_ble_eq_true rfl⟩) (run_U dX6_isRest_13 con_X11_size (ci := 10) rfl q1304 q888 q889 q887 q154 q892 (Or.inl ⟨_, _, _, q887, q892⟩) pu_Bo_size ⟨Nat.le_of_ble_eq_true rfl, Nat.le_of_ble_eq_true rfl⟩)))) BV_no ?_
  refine BS_imul dX6_isRest_16 ?_
  refine BS_icmp_ge (tgt := 75) dX6_isRest_17 (by decide) ?_ ?_
  · refine BS_exit ?_
    refine BS_iconst dX6_isRest_75 (by decide) ?_
    refine BS_istore dX6_isRest_76 (Nat.le_of_ble_eq_true rfl) ?_
    exact bs_X6_isRest_b78
  · refine BS_iload_n dX6_isRest_20 rfl ?_
    refine BS_if_eq (tgt := 67) dX6_isRest_21 (by decide) ?_ ?_
    · refine BS_iconst dX6_isRest_67 (by decide) ?_
      refine BS_istore_n dX6_isRest_68 rfl (Nat.le_of_ble_eq_true rfl) ?_
      refine BS_iinc dX6_isRest_69 (by decide) (Nat.le_of_ble_eq_true rfl) ?_
      refine BS_goto (tgt := 5) dX6_isRest_72 (by decide) ?_
      exact BS_back
    · refine BS_aload_n dX6_isRest_24 rfl ?_
      refine BS_gfr f_X6_32 dX6_isRest_25 ?_
      refine BS_iload dX6_isRest_28 ?_
      refine BS_call (run_S dX6_isRest_30 con_X6_can q1311 q1286 q144 q1287 pd_X6_can ⟨Nat.le_of_ble_eq_true rfl, Nat.le_of_ble_eq_true rfl⟩) BV_no ?_
      refine BS_if_eq (tgt := 63) dX6_isRest_33 (by decide) ?_ ?_
      · exact bs_X6_isRest_b63
      · refine BS_aload_n dX6_isRest_36 rfl ?_
        refine BS_gfr f_X6_9 dX6_isRest_37 ?_
        refine BS_bipush dX6_isRest_40 (by decide) ?_
        refine BS_iload dX6_isRest_42 ?_
        refine BS_imul dX6_isRest_44 ?_
        refine BS_iload_n dX6_isRest_45 rfl ?_
        refine BS_iadd dX6_isRest_46 ?_
        refine BS_laload dX6_isRest_47 ?_
        refine BS_aload_n dX6_isRest_48 rfl ?_
        refine BS_gfr f_X6_9 dX6_isRest_49 ?_
        refine BS_bipush dX6_isRest_52 (by decide) ?_
        refine BS_iload_n dX6_isRest_54 rfl ?_
        refine BS_imul dX6_isRest_55 ?_
        refine BS_iload_n dX6_isRest_56 rfl ?_
        refine BS_iadd dX6_isRest_57 ?_
        refine BS_laload dX6_isRest_58 ?_
        refine BS_lcmp dX6_isRest_59 ?_
        refine BS_if_gt (tgt := 67) dX6_isRest_60 (by decide) ?_ ?_
        · refine BS_iconst dX6_isRest_67 (by decide) ?_
          refine BS_istore_n dX6_isRest_68 rfl (Nat.le_of_ble_eq_true rfl) ?_
          refine BS_iinc dX6_isRest_69 (by decide) (Nat.le_of_ble_eq_true rfl) ?_
          refine BS_goto (tgt := 5) dX6_isRest_72 (by decide) ?_
          exact BS_back
        · exact bs_X6_isRest_b63
noncomputable def F_X6_isRest_b5 : KK OO := op_loop (F_X6_isRest_l5)
theorem bs_X6_isRest_b5 : B_S M_X6_isRest 5 (F_X6_isRest_b5) z_O k_O := BS_loop (bs_X6_isRest_l5)
noncomputable def F_X6_isRest_b0 : KK OO :=
  op_push (.int 1) <| op_ist 3 <| op_push (.int 0) <| op_ist 4 <| F_X6_isRest_b5
theorem bs_X6_isRest_b0 : B_S M_X6_isRest 0 (F_X6_isRest_b0) z_O k_O := by
  unfold F_X6_isRest_b0
  refine BS_iconst dX6_isRest_0 (by decide) ?_
  refine BS_istore_n dX6_isRest_1 rfl (Nat.le_of_ble_eq_true rfl) ?_
  refine BS_iconst dX6_isRest_2 (by decide) ?_
  refine BS_istore dX6_isRest_3 (Nat.le_of_ble_eq_true rfl) ?_
  exact bs_X6_isRest_b5
noncomputable def F_X6_isRest : FF := mk_F 5 F_X6_isRest_b0
theorem con_X6_isRest : Con_ yX6_isRest (ws_ yX6_isRest cX6_isRest 5 (some .boolean)) 2 41 F_X6_isRest := Con_of (by decide +kernel) bs_X6_isRest_b0
/-- LongerHalf$Game.seekRests()V -/
abbrev M_X6_seekRests : MM := (yX6_seekRests, cX6_seekRests, none, 3, 65, 3, [])
theorem pd_X6_seekRests : (yX6_seekRests.cls ≠ "java/lang/invoke/MethodHandle" ∧ yX6_seekRests.cls ≠ "java/lang/invoke/VarHandle") ∧ (parseMethodDescriptor yX6_seekRests.desc).map (fun d => d.parameters.length) = some 0 := ⟨⟨by decide +kernel, by decide +kernel⟩, by decide +kernel⟩
noncomputable def F_X6_seekRests_b100 : KK (L_S ⊕ (L_S ⊕ OO)) :=
  op_ald 0 <| op_dup <| op_gfi [15] 61 <| op_push (.int 1) <| op_i2 (fun x y => x + y) <| op_pfi .int [15] 61 <| op_iinc 2 1 <| op_back
theorem bs_X6_seekRests_b100 : B_S M_X6_seekRests 100 (F_X6_seekRests_b100) (z_L (z_L z_O)) (k_L 29 (k_L 13 k_O)) := by
  unfold F_X6_seekRests_b100
  refine BS_aload_n dX6_seekRests_100 rfl ?_
  refine BS_dup dX6_seekRests_101 ?_
  refine BS_gfi f_X6_59 dX6_seekRests_102 ?_
  refine BS_iconst dX6_seekRests_105 (by decide) ?_
  refine BS_iadd dX6_seekRests_106 ?_
  refine BS_pfi p_X6_59 (fun h => by cases h) dX6_seekRests_107 ?_
  refine BS_iinc dX6_seekRests_110 (by decide) (Nat.le_of_ble_eq_true rfl) ?_
  refine BS_goto (tgt := 29) dX6_seekRests_113 (by decide) ?_
  exact BS_back
noncomputable def F_X6_seekRests_l29 : KK (L_S ⊕ (L_S ⊕ OO)) :=
  op_ild 2 <| op_push (.int 2) <| op_ald 0 <| op_gfr [15] 58 <| op_push (.int 1) <| op_call 2 (f_or (f_kd 18 F_X11_size) (f_or (f_kd 19 F_X11_size) (f_kd 20 F_X11_size))) kx_no <| op_i2 (fun x y => x * y) <| op_cge (op_exit <| op_iinc 1 1 <| op_back) (op_ald 0 <| op_gfr [15] 59 <| op_ild 1 <| op_call 2 F_X6_can kx_no <| op_ieq (op_iinc 2 1 <| op_back) (op_ald 0 <| op_gfr [15] 60 <| op_ild 2 <| op_call 2 F_X6_can kx_no <| op_ieq (op_iinc 2 1 <| op_back) (op_ald 0 <| op_ild 1 <| op_ild 2 <| op_call 3 (f_kd 15 F_X6_isRest) kx_no <| op_ine (op_ald 0 <| op_gfi [15] 61 <| op_ine (F_X6_seekRests_b100) (op_ald 0 <| op_push (.int 100) <| op_ild 1 <| op_call 1 F_X6_told kx_no <| op_i2 (fun x y => x * y) <| op_ild 2 <| op_call 1 F_X6_told kx_no <| op_i2 (fun x y => x + y) <| op_pfi .int [15] 62 <| F_X6_seekRests_b100)) (op_iinc 2 1 <| op_back))))
theorem bs_X6_seekRests_l29 : B_S M_X6_seekRests 29 (F_X6_seekRests_l29) (z_L (z_L z_O)) (k_L 29 (k_L 13 k_O)) := by
  unfold F_X6_seekRests_l29
  refine BS_iload_n dX6_seekRests_29 rfl ?_
  refine BS_iconst dX6_seekRests_30 (by decide) ?_
  refine BS_aload_n dX6_seekRests_31 rfl ?_
  refine BS_gfr f_X6_28 dX6_seekRests_32 ?_
  refine BS_iconst dX6_seekRests_35 (by decide) ?_
  refine BS_call ((run_or (run_U dX6_seekRests_36 con_X11_size (ci := 8) rfl q1304 q888 q891 q887 q154 q892 (Or.inl ⟨_, _, _, q887, q892⟩) pu_Bo_size ⟨Nat.le_of_ble_eq_true rfl, Nat.le_of_ble_eq_true rfl⟩) (run_or (run_U dX6_seekRests_36 con_X11_size (ci := 9) rfl q1304 q888 q890 q887 q154 q892 (Or.inl ⟨_, _, _, q887, q892⟩) pu_Bo_size ⟨Nat.le_of_ble_eq_true rfl, Nat.le_of_ble_eq_true rfl⟩) (run_U dX6_seekRests_36 con_X11_size (ci := 10) rfl q1304 q888 q889 q887 q154 q892 (Or.inl ⟨_, _, _, q887, q892⟩) pu_Bo_size ⟨Nat.le_of_ble_eq_true rfl, Nat.le_of_ble_eq_true rfl⟩)))) BV_no ?_
  refine BS_imul dX6_seekRests_39 ?_
  refine BS_icmp_ge (tgt := 116) dX6_seekRests_40 (by decide) ?_ ?_
  · refine BS_exit ?_
    refine BS_iinc dX6_seekRests_116 (by decide) (Nat.le_of_ble_eq_true rfl) ?_
    refine BS_goto (tgt := 13) dX6_seekRests_119 (by decide) ?_
    exact BS_back
  · refine BS_aload_n dX6_seekRests_43 rfl ?_
    refine BS_gfr f_X6_32 dX6_seekRests_44 ?_
    refine BS_iload_n dX6_seekRests_47 rfl ?_
    refine BS_call (run_S dX6_seekRests_48 con_X6_can q1311 q1286 q144 q1287 pd_X6_can ⟨Nat.le_of_ble_eq_true rfl, Nat.le_of_ble_eq_true rfl⟩) BV_no ?_
    refine BS_if_eq (tgt := 110) dX6_seekRests_51 (by decide) ?_ ?_
    · refine BS_iinc dX6_seekRests_110 (by decide) (Nat.le_of_ble_eq_true rfl) ?_
      refine BS_goto (tgt := 29) dX6_seekRests_113 (by decide) ?_
      exact BS_back
    · refine BS_aload_n dX6_seekRests_54 rfl ?_
      refine BS_gfr f_X6_36 dX6_seekRests_55 ?_
      refine BS_iload_n dX6_seekRests_58 rfl ?_
      refine BS_call (run_S dX6_seekRests_59 con_X6_can q1311 q1286 q144 q1287 pd_X6_can ⟨Nat.le_of_ble_eq_true rfl, Nat.le_of_ble_eq_true rfl⟩) BV_no ?_
      refine BS_if_eq (tgt := 110) dX6_seekRests_62 (by decide) ?_ ?_
      · refine BS_iinc dX6_seekRests_110 (by decide) (Nat.le_of_ble_eq_true rfl) ?_
        refine BS_goto (tgt := 29) dX6_seekRests_113 (by decide) ?_
        exact BS_back
      · refine BS_aload_n dX6_seekRests_65 rfl ?_
        refine BS_iload_n dX6_seekRests_66 rfl ?_
        refine BS_iload_n dX6_seekRests_67 rfl ?_
        refine BS_call (run_V dX6_seekRests_68 con_X6_isRest (ci := 5) rfl rfl q1312 q1314 qs42 q144 q1315 pd_X6_isRest ⟨Nat.le_of_ble_eq_true rfl, Nat.le_of_ble_eq_true rfl⟩) BV_no ?_
        refine BS_if_ne (tgt := 77) dX6_seekRests_71 (by decide) ?_ ?_
        · refine BS_aload_n dX6_seekRests_77 rfl ?_
          refine BS_gfi f_X6_59 dX6_seekRests_78 ?_
          refine BS_if_ne (tgt := 100) dX6_seekRests_81 (by decide) ?_ ?_
          · exact bs_X6_seekRests_b100
          · refine BS_aload_n dX6_seekRests_84 rfl ?_
            refine BS_bipush dX6_seekRests_85 (by decide) ?_
            refine BS_iload_n dX6_seekRests_87 rfl ?_
            refine BS_call (run_S dX6_seekRests_88 con_X6_told q1316 q1290 q144 q1291 pd_X6_told ⟨Nat.le_of_ble_eq_true rfl, Nat.le_of_ble_eq_true rfl⟩) BV_no ?_
            refine BS_imul dX6_seekRests_91 ?_
            refine BS_iload_n dX6_seekRests_92 rfl ?_
            refine BS_call (run_S dX6_seekRests_93 con_X6_told q1316 q1290 q144 q1291 pd_X6_told ⟨Nat.le_of_ble_eq_true rfl, Nat.le_of_ble_eq_true rfl⟩) BV_no ?_
            refine BS_iadd dX6_seekRests_96 ?_
            refine BS_pfi p_X6_63 (fun h => by cases h) dX6_seekRests_97 ?_
            exact bs_X6_seekRests_b100
        · refine BS_goto (tgt := 110) dX6_seekRests_74 (by decide) ?_
          refine BS_iinc dX6_seekRests_110 (by decide) (Nat.le_of_ble_eq_true rfl) ?_
          refine BS_goto (tgt := 29) dX6_seekRests_113 (by decide) ?_
          exact BS_back
noncomputable def F_X6_seekRests_b29 : KK (L_S ⊕ OO) := op_loop (F_X6_seekRests_l29)
theorem bs_X6_seekRests_b29 : B_S M_X6_seekRests 29 (F_X6_seekRests_b29) (z_L z_O) (k_L 13 k_O) := BS_loop (bs_X6_seekRests_l29)
noncomputable def F_X6_seekRests_l13 : KK (L_S ⊕ OO) :=
  op_ild 1 <| op_push (.int 2) <| op_ald 0 <| op_gfr [15] 58 <| op_push (.int 0) <| op_call 2 (f_or (f_kd 18 F_X11_size) (f_or (f_kd 19 F_X11_size) (f_kd 20 F_X11_size))) kx_no <| op_i2 (fun x y => x * y) <| op_cge (op_exit <| op_vret) (op_push (.int 0) <| op_ist 2 <| F_X6_seekRests_b29)
theorem bs_X6_seekRests_l13 : B_S M_X6_seekRests 13 (F_X6_seekRests_l13) (z_L z_O) (k_L 13 k_O) := by
  unfold F_X6_seekRests_l13
  refine BS_iload_n dX6_seekRests_13 rfl ?_
  refine BS_iconst dX6_seekRests_14 (by decide) ?_
  refine BS_aload_n dX6_seekRests_15 rfl ?_
  refine BS_gfr f_X6_28 dX6_seekRests_16 ?_
  refine BS_iconst dX6_seekRests_19 (by decide) ?_
  refine BS_call ((run_or (run_U dX6_seekRests_20 con_X11_size (ci := 8) rfl q1304 q888 q891 q887 q154 q892 (Or.inl ⟨_, _, _, q887, q892⟩) pu_Bo_size ⟨Nat.le_of_ble_eq_true rfl, Nat.le_of_ble_eq_true rfl⟩) (run_or (run_U dX6_seekRests_20 con_X11_size (ci := 9) rfl q1304 q888 q890 q887 q154 q892 (Or.inl ⟨_, _, _, q887, q892⟩) pu_Bo_size ⟨Nat.le_of_ble_eq_true rfl, Nat.le_of_ble_eq_true rfl⟩) (run_U dX6_seekRests_20 con_X11_size (ci := 10) rfl q1304 q888 q889 q887 q154 q892 (Or.inl ⟨_, _, _, q887, q892⟩) pu_Bo_size ⟨Nat.le_of_ble_eq_true rfl, Nat.le_of_ble_eq_true rfl⟩)))) BV_no ?_
  refine BS_imul dX6_seekRests_23 ?_
  refine BS_icmp_ge (tgt := 122) dX6_seekRests_24 (by decide) ?_ ?_
  · refine BS_exit ?_
    exact BS_return dX6_seekRests_122 rfl
  · refine BS_iconst dX6_seekRests_27 (by decide) ?_
    refine BS_istore_n dX6_seekRests_28 rfl (Nat.le_of_ble_eq_true rfl) ?_
    exact bs_X6_seekRests_b29
noncomputable def F_X6_seekRests_b13 : KK OO := op_loop (F_X6_seekRests_l13)
theorem bs_X6_seekRests_b13 : B_S M_X6_seekRests 13 (F_X6_seekRests_b13) z_O k_O := BS_loop (bs_X6_seekRests_l13)
noncomputable def F_X6_seekRests_b0 : KK OO :=
  op_ald 0 <| op_push (.int 0) <| op_pfi .int [15] 61 <| op_ald 0 <| op_push (.int (-2)) <| op_pfi .int [15] 62 <| op_push (.int 0) <| op_ist 1 <| F_X6_seekRests_b13
theorem bs_X6_seekRests_b0 : B_S M_X6_seekRests 0 (F_X6_seekRests_b0) z_O k_O := by
  unfold F_X6_seekRests_b0
  refine BS_aload_n dX6_seekRests_0 rfl ?_
  refine BS_iconst dX6_seekRests_1 (by decide) ?_
  refine BS_pfi p_X6_59 (fun h => by cases h) dX6_seekRests_2 ?_
  refine BS_aload_n dX6_seekRests_5 rfl ?_
  refine BS_bipush dX6_seekRests_6 (by decide) ?_
  refine BS_pfi p_X6_63 (fun h => by cases h) dX6_seekRests_8 ?_
  refine BS_iconst dX6_seekRests_11 (by decide) ?_
  refine BS_istore_n dX6_seekRests_12 rfl (Nat.le_of_ble_eq_true rfl) ?_
  exact bs_X6_seekRests_b13
noncomputable def F_X6_seekRests : FF := mk_F 3 F_X6_seekRests_b0
theorem con_X6_seekRests : Con_ yX6_seekRests (ws_ yX6_seekRests cX6_seekRests 3 none) 3 65 F_X6_seekRests := Con_of (by decide +kernel) bs_X6_seekRests_b0
/-- LongerHalf$Game.sure()J -/
abbrev M_X6_sure : MM := (yX6_sure, cX6_sure, (some .long), 2, 41, 7, [])
theorem pd_X6_sure : (yX6_sure.cls ≠ "java/lang/invoke/MethodHandle" ∧ yX6_sure.cls ≠ "java/lang/invoke/VarHandle") ∧ (parseMethodDescriptor yX6_sure.desc).map (fun d => d.parameters.length) = some 0 := ⟨⟨by decide +kernel, by decide +kernel⟩, by decide +kernel⟩
noncomputable def F_X6_sure_l28 : KK (L_S ⊕ (L_S ⊕ OO)) :=
  op_ild 6 <| op_push (.int 2) <| op_ald 0 <| op_gfr [15] 58 <| op_push (.int 1) <| op_call 2 (f_or (f_kd 18 F_X11_size) (f_or (f_kd 19 F_X11_size) (f_kd 20 F_X11_size))) kx_no <| op_i2 (fun x y => x * y) <| op_cge (op_exit <| op_ald 0 <| op_gfr [15] 59 <| op_ild 3 <| op_call 2 F_X6_can kx_no <| op_ieq (op_iinc 3 1 <| op_back) (op_lld 1 <| op_lld 4 <| op_m2l (fun x y => if y < x then x else y) <| op_lst 1 <| op_iinc 3 1 <| op_back)) (op_ald 0 <| op_gfr [15] 60 <| op_ild 6 <| op_call 2 F_X6_can kx_no <| op_ieq (op_iinc 6 1 <| op_back) (op_lld 4 <| op_ald 0 <| op_gfr [15] 55 <| op_push (.int 12) <| op_ild 3 <| op_i2 (fun x y => x * y) <| op_ild 6 <| op_i2 (fun x y => x + y) <| op_lald <| op_m2l (fun x y => if y < x then y else x) <| op_lst 4 <| op_iinc 6 1 <| op_back))
theorem bs_X6_sure_l28 : B_S M_X6_sure 28 (F_X6_sure_l28) (z_L (z_L z_O)) (k_L 28 (k_L 6 k_O)) := by
  unfold F_X6_sure_l28
  refine BS_iload dX6_sure_28 ?_
  refine BS_iconst dX6_sure_30 (by decide) ?_
  refine BS_aload_n dX6_sure_31 rfl ?_
  refine BS_gfr f_X6_28 dX6_sure_32 ?_
  refine BS_iconst dX6_sure_35 (by decide) ?_
  refine BS_call ((run_or (run_U dX6_sure_36 con_X11_size (ci := 8) rfl q1304 q888 q891 q887 q154 q892 (Or.inl ⟨_, _, _, q887, q892⟩) pu_Bo_size ⟨Nat.le_of_ble_eq_true rfl, Nat.le_of_ble_eq_true rfl⟩) (run_or (run_U dX6_sure_36 con_X11_size (ci := 9) rfl q1304 q888 q890 q887 q154 q892 (Or.inl ⟨_, _, _, q887, q892⟩) pu_Bo_size ⟨Nat.le_of_ble_eq_true rfl, Nat.le_of_ble_eq_true rfl⟩) (run_U dX6_sure_36 con_X11_size (ci := 10) rfl q1304 q888 q889 q887 q154 q892 (Or.inl ⟨_, _, _, q887, q892⟩) pu_Bo_size ⟨Nat.le_of_ble_eq_true rfl, Nat.le_of_ble_eq_true rfl⟩)))) BV_no ?_
  refine BS_imul dX6_sure_39 ?_
  refine BS_icmp_ge (tgt := 80) dX6_sure_40 (by decide) ?_ ?_
  · refine BS_exit ?_
    refine BS_aload_n dX6_sure_80 rfl ?_
    refine BS_gfr f_X6_32 dX6_sure_81 ?_
    refine BS_iload_n dX6_sure_84 rfl ?_
    refine BS_call (run_S dX6_sure_85 con_X6_can q1311 q1286 q144 q1287 pd_X6_can ⟨Nat.le_of_ble_eq_true rfl, Nat.le_of_ble_eq_true rfl⟩) BV_no ?_
    refine BS_if_eq (tgt := 98) dX6_sure_88 (by decide) ?_ ?_
    · refine BS_iinc dX6_sure_98 (by decide) (Nat.le_of_ble_eq_true rfl) ?_
      refine BS_goto (tgt := 6) dX6_sure_101 (by decide) ?_
      exact BS_back
    · refine BS_lload_n dX6_sure_91 rfl ?_
      refine BS_lload dX6_sure_92 ?_
      refine BS_lmax dX6_sure_94 q1334 (Nat.le_of_ble_eq_true rfl) (Nat.le_of_ble_eq_true rfl) ?_
      refine BS_lstore_n dX6_sure_97 rfl (Nat.le_of_ble_eq_true rfl) ?_
      refine BS_iinc dX6_sure_98 (by decide) (Nat.le_of_ble_eq_true rfl) ?_
      refine BS_goto (tgt := 6) dX6_sure_101 (by decide) ?_
      exact BS_back
  · refine BS_aload_n dX6_sure_43 rfl ?_
    refine BS_gfr f_X6_36 dX6_sure_44 ?_
    refine BS_iload dX6_sure_47 ?_
    refine BS_call (run_S dX6_sure_49 con_X6_can q1311 q1286 q144 q1287 pd_X6_can ⟨Nat.le_of_ble_eq_true rfl, Nat.le_of_ble_eq_true rfl⟩) BV_no ?_
    refine BS_if_eq (tgt := 74) dX6_sure_52 (by decide) ?_ ?_
    · refine BS_iinc dX6_sure_74 (by decide) (Nat.le_of_ble_eq_true rfl) ?_
      refine BS_goto (tgt := 28) dX6_sure_77 (by decide) ?_
      exact BS_back
    · refine BS_lload dX6_sure_55 ?_
      refine BS_aload_n dX6_sure_57 rfl ?_
      refine BS_gfr f_X6_9 dX6_sure_58 ?_
      refine BS_bipush dX6_sure_61 (by decide) ?_
      refine BS_iload_n dX6_sure_63 rfl ?_
      refine BS_imul dX6_sure_64 ?_
      refine BS_iload dX6_sure_65 ?_
      refine BS_iadd dX6_sure_67 ?_
      refine BS_laload dX6_sure_68 ?_
      refine BS_lmin dX6_sure_69 q1331 (Nat.le_of_ble_eq_true rfl) (Nat.le_of_ble_eq_true rfl) ?_
      refine BS_lstore dX6_sure_72 (Nat.le_of_ble_eq_true rfl) ?_
      refine BS_iinc dX6_sure_74 (by decide) (Nat.le_of_ble_eq_true rfl) ?_
      refine BS_goto (tgt := 28) dX6_sure_77 (by decide) ?_
      exact BS_back
noncomputable def F_X6_sure_b28 : KK (L_S ⊕ OO) := op_loop (F_X6_sure_l28)
theorem bs_X6_sure_b28 : B_S M_X6_sure 28 (F_X6_sure_b28) (z_L z_O) (k_L 6 k_O) := BS_loop (bs_X6_sure_l28)
noncomputable def F_X6_sure_l6 : KK (L_S ⊕ OO) :=
  op_ild 3 <| op_push (.int 2) <| op_ald 0 <| op_gfr [15] 58 <| op_push (.int 0) <| op_call 2 (f_or (f_kd 18 F_X11_size) (f_or (f_kd 19 F_X11_size) (f_kd 20 F_X11_size))) kx_no <| op_i2 (fun x y => x * y) <| op_cge (op_exit <| op_lld 1 <| op_lret) (op_push (.long 9223372036854775807) <| op_lst 4 <| op_push (.int 0) <| op_ist 6 <| F_X6_sure_b28)
theorem bs_X6_sure_l6 : B_S M_X6_sure 6 (F_X6_sure_l6) (z_L z_O) (k_L 6 k_O) := by
  unfold F_X6_sure_l6
  refine BS_iload_n dX6_sure_6 rfl ?_
  refine BS_iconst dX6_sure_7 (by decide) ?_
  refine BS_aload_n dX6_sure_8 rfl ?_
  refine BS_gfr f_X6_28 dX6_sure_9 ?_
  refine BS_iconst dX6_sure_12 (by decide) ?_
  refine BS_call ((run_or (run_U dX6_sure_13 con_X11_size (ci := 8) rfl q1304 q888 q891 q887 q154 q892 (Or.inl ⟨_, _, _, q887, q892⟩) pu_Bo_size ⟨Nat.le_of_ble_eq_true rfl, Nat.le_of_ble_eq_true rfl⟩) (run_or (run_U dX6_sure_13 con_X11_size (ci := 9) rfl q1304 q888 q890 q887 q154 q892 (Or.inl ⟨_, _, _, q887, q892⟩) pu_Bo_size ⟨Nat.le_of_ble_eq_true rfl, Nat.le_of_ble_eq_true rfl⟩) (run_U dX6_sure_13 con_X11_size (ci := 10) rfl q1304 q888 q889 q887 q154 q892 (Or.inl ⟨_, _, _, q887, q892⟩) pu_Bo_size ⟨Nat.le_of_ble_eq_true rfl, Nat.le_of_ble_eq_true rfl⟩)))) BV_no ?_
  refine BS_imul dX6_sure_16 ?_
  refine BS_icmp_ge (tgt := 104) dX6_sure_17 (by decide) ?_ ?_
  · refine BS_exit ?_
    refine BS_lload_n dX6_sure_104 rfl ?_
    exact BS_lreturn dX6_sure_105 rfl
  · refine BS_ldc2 dX6_sure_20 q1330 ?_
    refine BS_lstore dX6_sure_23 (Nat.le_of_ble_eq_true rfl) ?_
    refine BS_iconst dX6_sure_25 (by decide) ?_
    refine BS_istore dX6_sure_26 (Nat.le_of_ble_eq_true rfl) ?_
    exact bs_X6_sure_b28
noncomputable def F_X6_sure_b6 : KK OO := op_loop (F_X6_sure_l6)
theorem bs_X6_sure_b6 : B_S M_X6_sure 6 (F_X6_sure_b6) z_O k_O := BS_loop (bs_X6_sure_l6)
noncomputable def F_X6_sure_b0 : KK OO :=
  op_push (.long (-1)) <| op_lst 1 <| op_push (.int 0) <| op_ist 3 <| F_X6_sure_b6
theorem bs_X6_sure_b0 : B_S M_X6_sure 0 (F_X6_sure_b0) z_O k_O := by
  unfold F_X6_sure_b0
  refine BS_ldc2 dX6_sure_0 q1329 ?_
  refine BS_lstore_n dX6_sure_3 rfl (Nat.le_of_ble_eq_true rfl) ?_
  refine BS_iconst dX6_sure_4 (by decide) ?_
  refine BS_istore_n dX6_sure_5 rfl (Nat.le_of_ble_eq_true rfl) ?_
  exact bs_X6_sure_b6
noncomputable def F_X6_sure : FF := mk_F 7 F_X6_sure_b0
theorem con_X6_sure : Con_ yX6_sure (ws_ yX6_sure cX6_sure 7 (some .long)) 2 41 F_X6_sure := Con_of (by decide +kernel) bs_X6_sure_b0
/-- LongerHalf$Pull.asTold(LLongerHalf$Person;LLongerHalf$Person;)V -/
abbrev M_X5_asTold : MM := (yX5_asTold, cX5_asTold, none, 2, 52, 3, [])
theorem pd_X5_asTold : (yX5_asTold.cls ≠ "java/lang/invoke/MethodHandle" ∧ yX5_asTold.cls ≠ "java/lang/invoke/VarHandle") ∧ (parseMethodDescriptor yX5_asTold.desc).map (fun d => d.parameters.length) = some 2 := ⟨⟨by decide +kernel, by decide +kernel⟩, by decide +kernel⟩
noncomputable def F_X5_asTold_b0 : KK OO :=
  op_ald 0 <| op_ald 1 <| op_ald 1 <| op_ald 0 <| op_gfr [14] 47 <| op_push (.int 0) <| op_call 3 (f_or (f_kd 21 F_X15_hold) (f_or (f_kd 22 F_X15_hold) (f_or (f_kd 23 F_X15_hold) (f_kd 24 F_X15_hold)))) kx_no <| op_ald 2 <| op_ald 2 <| op_ald 0 <| op_gfr [14] 47 <| op_push (.int 1) <| op_call 3 (f_or (f_kd 21 F_X15_hold) (f_or (f_kd 22 F_X15_hold) (f_or (f_kd 23 F_X15_hold) (f_kd 24 F_X15_hold)))) kx_no <| op_push (.int 2) <| op_call 6 (f_kd 14 F_X5_hold) kx_no <| op_vret
theorem bs_X5_asTold_b0 : B_S M_X5_asTold 0 (F_X5_asTold_b0) z_O k_O := by
  unfold F_X5_asTold_b0
  refine BS_aload_n dX5_asTold_0 rfl ?_
  refine BS_aload_n dX5_asTold_1 rfl ?_
  refine BS_aload_n dX5_asTold_2 rfl ?_
  refine BS_aload_n dX5_asTold_3 rfl ?_
  refine BS_gfr f_X5_25 dX5_asTold_4 ?_
  refine BS_iconst dX5_asTold_7 (by decide) ?_
  refine BS_call ((run_or (run_U dX5_asTold_8 con_X15_hold (ci := 11) rfl q1349 q1351 q1355 q1350 q158 q1356 (Or.inl ⟨_, _, _, q1350, q1356⟩) pu_Pe_hold ⟨Nat.le_of_ble_eq_true rfl, Nat.le_of_ble_eq_true rfl⟩) (run_or (run_U dX5_asTold_8 con_X15_hold (ci := 12) rfl q1349 q1351 q1354 q1350 q158 q1356 (Or.inl ⟨_, _, _, q1350, q1356⟩) pu_Pe_hold ⟨Nat.le_of_ble_eq_true rfl, Nat.le_of_ble_eq_true rfl⟩) (run_or (run_U dX5_asTold_8 con_X15_hold (ci := 13) rfl q1349 q1351 q1353 q1350 q158 q1356 (Or.inl ⟨_, _, _, q1350, q1356⟩) pu_Pe_hold ⟨Nat.le_of_ble_eq_true rfl, Nat.le_of_ble_eq_true rfl⟩) (run_U dX5_asTold_8 con_X15_hold (ci := 14) rfl q1349 q1351 q1352 q1350 q158 q1356 (Or.inl ⟨_, _, _, q1350, q1356⟩) pu_Pe_hold ⟨Nat.le_of_ble_eq_true rfl, Nat.le_of_ble_eq_true rfl⟩))))) BV_no ?_
  refine BS_aload_n dX5_asTold_11 rfl ?_
  refine BS_aload_n dX5_asTold_12 rfl ?_
  refine BS_aload_n dX5_asTold_13 rfl ?_
  refine BS_gfr f_X5_25 dX5_asTold_14 ?_
  refine BS_iconst dX5_asTold_17 (by decide) ?_
  refine BS_call ((run_or (run_U dX5_asTold_18 con_X15_hold (ci := 11) rfl q1349 q1351 q1355 q1350 q158 q1356 (Or.inl ⟨_, _, _, q1350, q1356⟩) pu_Pe_hold ⟨Nat.le_of_ble_eq_true rfl, Nat.le_of_ble_eq_true rfl⟩) (run_or (run_U dX5_asTold_18 con_X15_hold (ci := 12) rfl q1349 q1351 q1354 q1350 q158 q1356 (Or.inl ⟨_, _, _, q1350, q1356⟩) pu_Pe_hold ⟨Nat.le_of_ble_eq_true rfl, Nat.le_of_ble_eq_true rfl⟩) (run_or (run_U dX5_asTold_18 con_X15_hold (ci := 13) rfl q1349 q1351 q1353 q1350 q158 q1356 (Or.inl ⟨_, _, _, q1350, q1356⟩) pu_Pe_hold ⟨Nat.le_of_ble_eq_true rfl, Nat.le_of_ble_eq_true rfl⟩) (run_U dX5_asTold_18 con_X15_hold (ci := 14) rfl q1349 q1351 q1352 q1350 q158 q1356 (Or.inl ⟨_, _, _, q1350, q1356⟩) pu_Pe_hold ⟨Nat.le_of_ble_eq_true rfl, Nat.le_of_ble_eq_true rfl⟩))))) BV_no ?_
  refine BS_iconst dX5_asTold_21 (by decide) ?_
  refine BS_call (run_V dX5_asTold_22 con_X5_hold (ci := 4) rfl rfl q1361 q1197 q1198 q143 q1199 pd_X5_hold ⟨Nat.le_of_ble_eq_true rfl, Nat.le_of_ble_eq_true rfl⟩) BV_no ?_
  exact BS_return dX5_asTold_25 rfl
noncomputable def F_X5_asTold : FF := mk_F 3 F_X5_asTold_b0
theorem con_X5_asTold : Con_ yX5_asTold (ws_ yX5_asTold cX5_asTold 3 none) 2 52 F_X5_asTold := Con_of (by decide +kernel) bs_X5_asTold_b0
/-- LongerHalf$Turns.canBe(II)Z -/
abbrev M_X7_canBe : MM := (yX7_canBe, cX7_canBe, (some .boolean), 0, 0, 3, [])
theorem pd_X7_canBe : (yX7_canBe.cls ≠ "java/lang/invoke/MethodHandle" ∧ yX7_canBe.cls ≠ "java/lang/invoke/VarHandle") ∧ (parseMethodDescriptor yX7_canBe.desc).map (fun d => d.parameters.length) = some 2 := ⟨⟨by decide +kernel, by decide +kernel⟩, by decide +kernel⟩
noncomputable def F_X7_canBe_b55 : KK OO :=
  op_push (.int 1) <| op_iret .boolean
theorem bs_X7_canBe_b55 : B_S M_X7_canBe 55 (F_X7_canBe_b55) z_O k_O := by
  unfold F_X7_canBe_b55
  refine BS_iconst dX7_canBe_55 (by decide) ?_
  refine BS_goto (tgt := 60) dX7_canBe_56 (by decide) ?_
  exact BS_ireturn dX7_canBe_60 rfl
noncomputable def F_X7_canBe_b0 : KK OO :=
  op_ald 0 <| op_gfr [16] 65 <| op_ild 2 <| op_iald 1 <| op_push (.int 2) <| op_ald 0 <| op_gfi [16] 67 <| op_i2 (fun x y => x * y) <| op_ald 0 <| op_gfi [16] 66 <| op_i2 (fun x y => x + y) <| op_push (.int 1) <| op_i2 (fun x y => x - y) <| op_ald 0 <| op_gfi [16] 66 <| op_i2d (fun x y => x / y) <| op_cge (op_push (.int 0) <| op_iret .boolean) (op_ild 1 <| op_ieq (F_X7_canBe_b55) (op_ald 0 <| op_gfr [16] 63 <| op_ild 1 <| op_push (.int 1) <| op_i2 (fun x y => x - y) <| op_iald 1 <| op_ild 2 <| op_ceq (op_push (.int 0) <| op_iret .boolean) (op_ald 0 <| op_gfr [16] 64 <| op_ild 1 <| op_push (.int 1) <| op_i2 (fun x y => x - y) <| op_iald 1 <| op_ild 2 <| op_ceq (op_push (.int 0) <| op_iret .boolean) (F_X7_canBe_b55))))
theorem bs_X7_canBe_b0 : B_S M_X7_canBe 0 (F_X7_canBe_b0) z_O k_O := by
  unfold F_X7_canBe_b0
  refine BS_aload_n dX7_canBe_0 rfl ?_
  refine BS_gfr f_X7_18 dX7_canBe_1 ?_
  refine BS_iload_n dX7_canBe_4 rfl ?_
  refine BS_iaload dX7_canBe_5 ?_
  refine BS_iconst dX7_canBe_6 (by decide) ?_
  refine BS_aload_n dX7_canBe_7 rfl ?_
  refine BS_gfi f_X7_25 dX7_canBe_8 ?_
  refine BS_imul dX7_canBe_11 ?_
  refine BS_aload_n dX7_canBe_12 rfl ?_
  refine BS_gfi f_X7_21 dX7_canBe_13 ?_
  refine BS_iadd dX7_canBe_16 ?_
  refine BS_iconst dX7_canBe_17 (by decide) ?_
  refine BS_isub dX7_canBe_18 ?_
  refine BS_aload_n dX7_canBe_19 rfl ?_
  refine BS_gfi f_X7_21 dX7_canBe_20 ?_
  refine BS_idiv dX7_canBe_23 ?_
  refine BS_icmp_ge (tgt := 59) dX7_canBe_24 (by decide) ?_ ?_
  · refine BS_iconst dX7_canBe_59 (by decide) ?_
    exact BS_ireturn dX7_canBe_60 rfl
  · refine BS_iload_n dX7_canBe_27 rfl ?_
    refine BS_if_eq (tgt := 55) dX7_canBe_28 (by decide) ?_ ?_
    · exact bs_X7_canBe_b55
    · refine BS_aload_n dX7_canBe_31 rfl ?_
      refine BS_gfr f_X7_9 dX7_canBe_32 ?_
      refine BS_iload_n dX7_canBe_35 rfl ?_
      refine BS_iconst dX7_canBe_36 (by decide) ?_
      refine BS_isub dX7_canBe_37 ?_
      refine BS_iaload dX7_canBe_38 ?_
      refine BS_iload_n dX7_canBe_39 rfl ?_
      refine BS_icmp_eq (tgt := 59) dX7_canBe_40 (by decide) ?_ ?_
      · refine BS_iconst dX7_canBe_59 (by decide) ?_
        exact BS_ireturn dX7_canBe_60 rfl
      · refine BS_aload_n dX7_canBe_43 rfl ?_
        refine BS_gfr f_X7_15 dX7_canBe_44 ?_
        refine BS_iload_n dX7_canBe_47 rfl ?_
        refine BS_iconst dX7_canBe_48 (by decide) ?_
        refine BS_isub dX7_canBe_49 ?_
        refine BS_iaload dX7_canBe_50 ?_
        refine BS_iload_n dX7_canBe_51 rfl ?_
        refine BS_icmp_eq (tgt := 59) dX7_canBe_52 (by decide) ?_ ?_
        · refine BS_iconst dX7_canBe_59 (by decide) ?_
          exact BS_ireturn dX7_canBe_60 rfl
        · exact bs_X7_canBe_b55
noncomputable def F_X7_canBe : FF := mk_F 3 F_X7_canBe_b0
theorem con_X7_canBe : Con_ yX7_canBe (ws_ yX7_canBe cX7_canBe 3 (some .boolean)) 0 0 F_X7_canBe := Con_of (by decide +kernel) bs_X7_canBe_b0
/-- LongerHalf$Turns.isEven()Z -/
abbrev M_X7_isEven : MM := (yX7_isEven, cX7_isEven, (some .boolean), 0, 0, 3, [])
theorem pd_X7_isEven : (yX7_isEven.cls ≠ "java/lang/invoke/MethodHandle" ∧ yX7_isEven.cls ≠ "java/lang/invoke/VarHandle") ∧ (parseMethodDescriptor yX7_isEven.desc).map (fun d => d.parameters.length) = some 0 := ⟨⟨by decide +kernel, by decide +kernel⟩, by decide +kernel⟩
noncomputable def F_X7_isEven_l4 : KK (L_S ⊕ OO) :=
  op_ild 2 <| op_ald 0 <| op_gfi [16] 66 <| op_cge (op_exit <| op_ild 1 <| op_iret .boolean) (op_ild 1 <| op_ieq (op_push (.int 0) <| op_ist 1 <| op_iinc 2 1 <| op_back) (op_ald 0 <| op_gfr [16] 65 <| op_ild 2 <| op_iald 1 <| op_push (.int 2) <| op_ald 0 <| op_gfi [16] 67 <| op_i2 (fun x y => x * y) <| op_ald 0 <| op_gfi [16] 66 <| op_i2d (fun x y => x / y) <| op_clt (op_push (.int 0) <| op_ist 1 <| op_iinc 2 1 <| op_back) (op_push (.int 1) <| op_ist 1 <| op_iinc 2 1 <| op_back)))
theorem bs_X7_isEven_l4 : B_S M_X7_isEven 4 (F_X7_isEven_l4) (z_L z_O) (k_L 4 k_O) := by
  unfold F_X7_isEven_l4
  refine BS_iload_n dX7_isEven_4 rfl ?_
  refine BS_aload_n dX7_isEven_5 rfl ?_
  refine BS_gfi f_X7_21 dX7_isEven_6 ?_
  refine BS_icmp_ge (tgt := 48) dX7_isEven_9 (by decide) ?_ ?_
  · refine BS_exit ?_
    refine BS_iload_n dX7_isEven_48 rfl ?_
    exact BS_ireturn dX7_isEven_49 rfl
  · refine BS_iload_n dX7_isEven_12 rfl ?_
    refine BS_if_eq (tgt := 40) dX7_isEven_13 (by decide) ?_ ?_
    · refine BS_iconst dX7_isEven_40 (by decide) ?_
      refine BS_istore_n dX7_isEven_41 rfl (Nat.le_of_ble_eq_true rfl) ?_
      refine BS_iinc dX7_isEven_42 (by decide) (Nat.le_of_ble_eq_true rfl) ?_
      refine BS_goto (tgt := 4) dX7_isEven_45 (by decide) ?_
      exact BS_back
    · refine BS_aload_n dX7_isEven_16 rfl ?_
      refine BS_gfr f_X7_18 dX7_isEven_17 ?_
      refine BS_iload_n dX7_isEven_20 rfl ?_
      refine BS_iaload dX7_isEven_21 ?_
      refine BS_iconst dX7_isEven_22 (by decide) ?_
      refine BS_aload_n dX7_isEven_23 rfl ?_
      refine BS_gfi f_X7_25 dX7_isEven_24 ?_
      refine BS_imul dX7_isEven_27 ?_
      refine BS_aload_n dX7_isEven_28 rfl ?_
      refine BS_gfi f_X7_21 dX7_isEven_29 ?_
      refine BS_idiv dX7_isEven_32 ?_
      refine BS_icmp_lt (tgt := 40) dX7_isEven_33 (by decide) ?_ ?_
      · refine BS_iconst dX7_isEven_40 (by decide) ?_
        refine BS_istore_n dX7_isEven_41 rfl (Nat.le_of_ble_eq_true rfl) ?_
        refine BS_iinc dX7_isEven_42 (by decide) (Nat.le_of_ble_eq_true rfl) ?_
        refine BS_goto (tgt := 4) dX7_isEven_45 (by decide) ?_
        exact BS_back
      · refine BS_iconst dX7_isEven_36 (by decide) ?_
        refine BS_goto (tgt := 41) dX7_isEven_37 (by decide) ?_
        refine BS_istore_n dX7_isEven_41 rfl (Nat.le_of_ble_eq_true rfl) ?_
        refine BS_iinc dX7_isEven_42 (by decide) (Nat.le_of_ble_eq_true rfl) ?_
        refine BS_goto (tgt := 4) dX7_isEven_45 (by decide) ?_
        exact BS_back
noncomputable def F_X7_isEven_b4 : KK OO := op_loop (F_X7_isEven_l4)
theorem bs_X7_isEven_b4 : B_S M_X7_isEven 4 (F_X7_isEven_b4) z_O k_O := BS_loop (bs_X7_isEven_l4)
noncomputable def F_X7_isEven_b0 : KK OO :=
  op_push (.int 1) <| op_ist 1 <| op_push (.int 0) <| op_ist 2 <| F_X7_isEven_b4
theorem bs_X7_isEven_b0 : B_S M_X7_isEven 0 (F_X7_isEven_b0) z_O k_O := by
  unfold F_X7_isEven_b0
  refine BS_iconst dX7_isEven_0 (by decide) ?_
  refine BS_istore_n dX7_isEven_1 rfl (Nat.le_of_ble_eq_true rfl) ?_
  refine BS_iconst dX7_isEven_2 (by decide) ?_
  refine BS_istore_n dX7_isEven_3 rfl (Nat.le_of_ble_eq_true rfl) ?_
  exact bs_X7_isEven_b4
noncomputable def F_X7_isEven : FF := mk_F 3 F_X7_isEven_b0
theorem con_X7_isEven : Con_ yX7_isEven (ws_ yX7_isEven cX7_isEven 3 (some .boolean)) 0 0 F_X7_isEven := Con_of (by decide +kernel) bs_X7_isEven_b0
/-- LongerHalf$Turns.tries(I)Z -/
abbrev M_X7_tries (d9 : Nat) : MM := (yX7_tries, cX7_tries, (some .boolean), 1 + (d9 + 1), 22 + 23 * (d9 + 1), 4, [])
theorem pd_X7_tries : (yX7_tries.cls ≠ "java/lang/invoke/MethodHandle" ∧ yX7_tries.cls ≠ "java/lang/invoke/VarHandle") ∧ (parseMethodDescriptor yX7_tries.desc).map (fun d => d.parameters.length) = some 1 := ⟨⟨by decide +kernel, by decide +kernel⟩, by decide +kernel⟩
noncomputable def F_X7_tries_b91 (Fr : FF) : KK (L_S ⊕ (L_S ⊕ OO)) :=
  op_ild 1 <| op_push (.int 1) <| op_i2 (fun x y => x + y) <| op_call 2 (f_kd 16 Fr) kx_no <| op_ieq (op_ald 0 <| op_gfr [16] 65 <| op_ild 2 <| op_dup2 <| op_iald 1 <| op_push (.int 1) <| op_i2 (fun x y => x - y) <| op_iast 1 .int <| op_ald 0 <| op_gfr [16] 65 <| op_ild 3 <| op_dup2 <| op_iald 1 <| op_push (.int 1) <| op_i2 (fun x y => x - y) <| op_iast 1 .int <| op_iinc 3 1 <| op_back) (op_exit <| op_exit <| op_push (.int 1) <| op_iret .boolean)
theorem bs_X7_tries_b91 {d9 : Nat} {Fr : FF} (hr : Con_ yX7_tries (ws_ yX7_tries cX7_tries 4 (some .boolean)) (1 + d9) (22 + 23 * d9) Fr) : B_S (M_X7_tries d9) 91 (F_X7_tries_b91 Fr) (z_L (z_L z_O)) (k_L 27 (k_L 15 k_O)) := by
  unfold F_X7_tries_b91
  refine BS_iload_n dX7_tries_91 rfl ?_
  refine BS_iconst dX7_tries_92 (by decide) ?_
  refine BS_iadd dX7_tries_93 ?_
  refine BS_call (run_V dX7_tries_94 hr (ci := 6) rfl rfl q1416 q1418 qs47 q145 q1419 pd_X7_tries ⟨by show 1 + d9 + 1 ≤ 1 + (d9 + 1); omega, by show _ ≤ 22 + 23 * (d9 + 1); omega⟩) BV_no ?_
  refine BS_if_eq (tgt := 102) dX7_tries_97 (by decide) ?_ ?_
  · refine BS_aload_n dX7_tries_102 rfl ?_
    refine BS_gfr f_X7_18 dX7_tries_103 ?_
    refine BS_iload_n dX7_tries_106 rfl ?_
    refine BS_dup2 dX7_tries_107 ?_
    refine BS_iaload dX7_tries_108 ?_
    refine BS_iconst dX7_tries_109 (by decide) ?_
    refine BS_isub dX7_tries_110 ?_
    refine BS_iastore dX7_tries_111 ?_
    refine BS_aload_n dX7_tries_112 rfl ?_
    refine BS_gfr f_X7_18 dX7_tries_113 ?_
    refine BS_iload_n dX7_tries_116 rfl ?_
    refine BS_dup2 dX7_tries_117 ?_
    refine BS_iaload dX7_tries_118 ?_
    refine BS_iconst dX7_tries_119 (by decide) ?_
    refine BS_isub dX7_tries_120 ?_
    refine BS_iastore dX7_tries_121 ?_
    refine BS_iinc dX7_tries_122 (by decide) (Nat.le_of_ble_eq_true rfl) ?_
    refine BS_goto (tgt := 27) dX7_tries_125 (by decide) ?_
    exact BS_back
  · refine BS_exit ?_
    refine BS_exit ?_
    refine BS_iconst dX7_tries_100 (by decide) ?_
    exact BS_ireturn dX7_tries_101 rfl
noncomputable def F_X7_tries_b53 (Fr : FF) : KK (L_S ⊕ (L_S ⊕ OO)) :=
  op_iinc 3 1 <| op_back
theorem bs_X7_tries_b53 {d9 : Nat} {Fr : FF} (hr : Con_ yX7_tries (ws_ yX7_tries cX7_tries 4 (some .boolean)) (1 + d9) (22 + 23 * d9) Fr) : B_S (M_X7_tries d9) 53 (F_X7_tries_b53 Fr) (z_L (z_L z_O)) (k_L 27 (k_L 15 k_O)) := by
  unfold F_X7_tries_b53
  refine BS_goto (tgt := 122) dX7_tries_53 (by decide) ?_
  refine BS_iinc dX7_tries_122 (by decide) (Nat.le_of_ble_eq_true rfl) ?_
  refine BS_goto (tgt := 27) dX7_tries_125 (by decide) ?_
  exact BS_back
noncomputable def F_X7_tries_l27 (Fr : FF) : KK (L_S ⊕ (L_S ⊕ OO)) :=
  op_ild 3 <| op_ald 0 <| op_gfi [16] 66 <| op_cge (op_exit <| op_iinc 2 1 <| op_back) (op_ald 0 <| op_ild 1 <| op_ild 2 <| op_call 3 (f_kd 16 F_X7_canBe) kx_no <| op_ieq (op_iinc 3 1 <| op_back) (op_ald 0 <| op_ild 1 <| op_ild 3 <| op_call 3 (f_kd 16 F_X7_canBe) kx_no <| op_ine (op_ald 0 <| op_gfr [16] 63 <| op_ild 1 <| op_ild 2 <| op_iast 1 .int <| op_ald 0 <| op_gfr [16] 64 <| op_ild 1 <| op_ild 3 <| op_iast 1 .int <| op_ald 0 <| op_gfr [16] 65 <| op_ild 2 <| op_dup2 <| op_iald 1 <| op_push (.int 1) <| op_i2 (fun x y => x + y) <| op_iast 1 .int <| op_ald 0 <| op_gfr [16] 65 <| op_ild 3 <| op_dup2 <| op_iald 1 <| op_push (.int 1) <| op_i2 (fun x y => x + y) <| op_iast 1 .int <| op_ald 0 <| F_X7_tries_b91 Fr) (F_X7_tries_b53 Fr)))
theorem bs_X7_tries_l27 {d9 : Nat} {Fr : FF} (hr : Con_ yX7_tries (ws_ yX7_tries cX7_tries 4 (some .boolean)) (1 + d9) (22 + 23 * d9) Fr) : B_S (M_X7_tries d9) 27 (F_X7_tries_l27 Fr) (z_L (z_L z_O)) (k_L 27 (k_L 15 k_O)) := by
  unfold F_X7_tries_l27
  refine BS_iload_n dX7_tries_27 rfl ?_
  refine BS_aload_n dX7_tries_28 rfl ?_
  refine BS_gfi f_X7_21 dX7_tries_29 ?_
  refine BS_icmp_ge (tgt := 128) dX7_tries_32 (by decide) ?_ ?_
  · refine BS_exit ?_
    refine BS_iinc dX7_tries_128 (by decide) (Nat.le_of_ble_eq_true rfl) ?_
    refine BS_goto (tgt := 15) dX7_tries_131 (by decide) ?_
    exact BS_back
  · refine BS_aload_n dX7_tries_35 rfl ?_
    refine BS_iload_n dX7_tries_36 rfl ?_
    refine BS_iload_n dX7_tries_37 rfl ?_
    refine BS_call (run_V dX7_tries_38 con_X7_canBe (ci := 6) rfl rfl q1424 q1426 qs49 q145 q1427 pd_X7_canBe ⟨Nat.le_trans (Nat.le_of_ble_eq_true rfl : _ ≤ 1) (Nat.le_add_right _ _), Nat.le_trans (Nat.le_of_ble_eq_true rfl : _ ≤ 22) (Nat.le_add_right _ _)⟩) BV_no ?_
    refine BS_if_eq (tgt := 122) dX7_tries_41 (by decide) ?_ ?_
    · refine BS_iinc dX7_tries_122 (by decide) (Nat.le_of_ble_eq_true rfl) ?_
      refine BS_goto (tgt := 27) dX7_tries_125 (by decide) ?_
      exact BS_back
    · refine BS_aload_n dX7_tries_44 rfl ?_
      refine BS_iload_n dX7_tries_45 rfl ?_
      refine BS_iload_n dX7_tries_46 rfl ?_
      refine BS_call (run_V dX7_tries_47 con_X7_canBe (ci := 6) rfl rfl q1424 q1426 qs49 q145 q1427 pd_X7_canBe ⟨Nat.le_trans (Nat.le_of_ble_eq_true rfl : _ ≤ 1) (Nat.le_add_right _ _), Nat.le_trans (Nat.le_of_ble_eq_true rfl : _ ≤ 22) (Nat.le_add_right _ _)⟩) BV_no ?_
      refine BS_if_ne (tgt := 56) dX7_tries_50 (by decide) ?_ ?_
      · refine BS_aload_n dX7_tries_56 rfl ?_
        refine BS_gfr f_X7_9 dX7_tries_57 ?_
        refine BS_iload_n dX7_tries_60 rfl ?_
        refine BS_iload_n dX7_tries_61 rfl ?_
        refine BS_iastore dX7_tries_62 ?_
        refine BS_aload_n dX7_tries_63 rfl ?_
        refine BS_gfr f_X7_15 dX7_tries_64 ?_
        refine BS_iload_n dX7_tries_67 rfl ?_
        refine BS_iload_n dX7_tries_68 rfl ?_
        refine BS_iastore dX7_tries_69 ?_
        refine BS_aload_n dX7_tries_70 rfl ?_
        refine BS_gfr f_X7_18 dX7_tries_71 ?_
        refine BS_iload_n dX7_tries_74 rfl ?_
        refine BS_dup2 dX7_tries_75 ?_
        refine BS_iaload dX7_tries_76 ?_
        refine BS_iconst dX7_tries_77 (by decide) ?_
        refine BS_iadd dX7_tries_78 ?_
        refine BS_iastore dX7_tries_79 ?_
        refine BS_aload_n dX7_tries_80 rfl ?_
        refine BS_gfr f_X7_18 dX7_tries_81 ?_
        refine BS_iload_n dX7_tries_84 rfl ?_
        refine BS_dup2 dX7_tries_85 ?_
        refine BS_iaload dX7_tries_86 ?_
        refine BS_iconst dX7_tries_87 (by decide) ?_
        refine BS_iadd dX7_tries_88 ?_
        refine BS_iastore dX7_tries_89 ?_
        refine BS_aload_n dX7_tries_90 rfl ?_
        exact bs_X7_tries_b91 hr
      · exact bs_X7_tries_b53 hr
noncomputable def F_X7_tries_b27 (Fr : FF) : KK (L_S ⊕ OO) := op_loop (F_X7_tries_l27 Fr)
theorem bs_X7_tries_b27 {d9 : Nat} {Fr : FF} (hr : Con_ yX7_tries (ws_ yX7_tries cX7_tries 4 (some .boolean)) (1 + d9) (22 + 23 * d9) Fr) : B_S (M_X7_tries d9) 27 (F_X7_tries_b27 Fr) (z_L z_O) (k_L 15 k_O) := BS_loop (bs_X7_tries_l27 hr)
noncomputable def F_X7_tries_l15 (Fr : FF) : KK (L_S ⊕ OO) :=
  op_ild 2 <| op_ald 0 <| op_gfi [16] 66 <| op_cge (op_exit <| op_push (.int 0) <| op_iret .boolean) (op_ild 2 <| op_push (.int 1) <| op_i2 (fun x y => x + y) <| op_ist 3 <| F_X7_tries_b27 Fr)
theorem bs_X7_tries_l15 {d9 : Nat} {Fr : FF} (hr : Con_ yX7_tries (ws_ yX7_tries cX7_tries 4 (some .boolean)) (1 + d9) (22 + 23 * d9) Fr) : B_S (M_X7_tries d9) 15 (F_X7_tries_l15 Fr) (z_L z_O) (k_L 15 k_O) := by
  unfold F_X7_tries_l15
  refine BS_iload_n dX7_tries_15 rfl ?_
  refine BS_aload_n dX7_tries_16 rfl ?_
  refine BS_gfi f_X7_21 dX7_tries_17 ?_
  refine BS_icmp_ge (tgt := 134) dX7_tries_20 (by decide) ?_ ?_
  · refine BS_exit ?_
    refine BS_iconst dX7_tries_134 (by decide) ?_
    exact BS_ireturn dX7_tries_135 rfl
  · refine BS_iload_n dX7_tries_23 rfl ?_
    refine BS_iconst dX7_tries_24 (by decide) ?_
    refine BS_iadd dX7_tries_25 ?_
    refine BS_istore_n dX7_tries_26 rfl (Nat.le_of_ble_eq_true rfl) ?_
    exact bs_X7_tries_b27 hr
noncomputable def F_X7_tries_b15 (Fr : FF) : KK OO := op_loop (F_X7_tries_l15 Fr)
theorem bs_X7_tries_b15 {d9 : Nat} {Fr : FF} (hr : Con_ yX7_tries (ws_ yX7_tries cX7_tries 4 (some .boolean)) (1 + d9) (22 + 23 * d9) Fr) : B_S (M_X7_tries d9) 15 (F_X7_tries_b15 Fr) z_O k_O := BS_loop (bs_X7_tries_l15 hr)
noncomputable def F_X7_tries_b0 (Fr : FF) : KK OO :=
  op_ild 1 <| op_ald 0 <| op_gfi [16] 67 <| op_cne (op_push (.int 0) <| op_ist 2 <| F_X7_tries_b15 Fr) (op_ald 0 <| op_call 1 (f_kd 16 F_X7_isEven) kx_no <| op_iret .boolean)
theorem bs_X7_tries_b0 {d9 : Nat} {Fr : FF} (hr : Con_ yX7_tries (ws_ yX7_tries cX7_tries 4 (some .boolean)) (1 + d9) (22 + 23 * d9) Fr) : B_S (M_X7_tries d9) 0 (F_X7_tries_b0 Fr) z_O k_O := by
  unfold F_X7_tries_b0
  refine BS_iload_n dX7_tries_0 rfl ?_
  refine BS_aload_n dX7_tries_1 rfl ?_
  refine BS_gfi f_X7_25 dX7_tries_2 ?_
  refine BS_icmp_ne (tgt := 13) dX7_tries_5 (by decide) ?_ ?_
  · refine BS_iconst dX7_tries_13 (by decide) ?_
    refine BS_istore_n dX7_tries_14 rfl (Nat.le_of_ble_eq_true rfl) ?_
    exact bs_X7_tries_b15 hr
  · refine BS_aload_n dX7_tries_8 rfl ?_
    refine BS_call (run_V dX7_tries_9 con_X7_isEven (ci := 6) rfl rfl q1420 q1422 qs48 q145 q1423 pd_X7_isEven ⟨Nat.le_trans (Nat.le_of_ble_eq_true rfl : _ ≤ 1) (Nat.le_add_right _ _), Nat.le_trans (Nat.le_of_ble_eq_true rfl : _ ≤ 22) (Nat.le_add_right _ _)⟩) BV_no ?_
    exact BS_ireturn dX7_tries_12 rfl
noncomputable def F_X7_tries : Nat → FF
  | 0 => fun _ _ => none
  | d9 + 1 => mk_F 4 (F_X7_tries_b0 (F_X7_tries d9))
theorem con_X7_tries : ∀ d9 : Nat, Con_ yX7_tries (ws_ yX7_tries cX7_tries 4 (some .boolean)) (1 + d9) (22 + 23 * d9) (F_X7_tries d9)
  | 0 => fun _ _ _ h => by cases h
  | d9 + 1 => Con_of (by decide +kernel) (bs_X7_tries_b0 (con_X7_tries d9))
/-- LongerHalf$Turns.find(II)Z -/
abbrev M_X7_find : MM := (yX7_find, cX7_find, (some .boolean), 14, 321, 4, [])
theorem pd_X7_find : (yX7_find.cls ≠ "java/lang/invoke/MethodHandle" ∧ yX7_find.cls ≠ "java/lang/invoke/VarHandle") ∧ (parseMethodDescriptor yX7_find.desc).map (fun d => d.parameters.length) = some 2 := ⟨⟨by decide +kernel, by decide +kernel⟩, by decide +kernel⟩
noncomputable def F_X7_find_l12 : KK (L_S ⊕ OO) :=
  op_ild 3 <| op_ild 1 <| op_cge (op_exit <| op_ald 0 <| op_push (.int 0) <| op_call 2 (f_kd 16 (F_X7_tries 12)) kx_no <| op_iret .boolean) (op_ald 0 <| op_gfr [16] 65 <| op_ild 3 <| op_push (.int 0) <| op_iast 1 .int <| op_iinc 3 1 <| op_back)
theorem bs_X7_find_l12 : B_S M_X7_find 12 (F_X7_find_l12) (z_L z_O) (k_L 12 k_O) := by
  unfold F_X7_find_l12
  refine BS_iload_n dX7_find_12 rfl ?_
  refine BS_iload_n dX7_find_13 rfl ?_
  refine BS_icmp_ge (tgt := 30) dX7_find_14 (by decide) ?_ ?_
  · refine BS_exit ?_
    refine BS_aload_n dX7_find_30 rfl ?_
    refine BS_iconst dX7_find_31 (by decide) ?_
    refine BS_call (run_V dX7_find_32 (con_X7_tries 12) (ci := 6) rfl rfl q1416 q1418 qs47 q145 q1419 pd_X7_tries ⟨Nat.le_of_ble_eq_true rfl, Nat.le_of_ble_eq_true rfl⟩) BV_no ?_
    exact BS_ireturn dX7_find_35 rfl
  · refine BS_aload_n dX7_find_17 rfl ?_
    refine BS_gfr f_X7_18 dX7_find_18 ?_
    refine BS_iload_n dX7_find_21 rfl ?_
    refine BS_iconst dX7_find_22 (by decide) ?_
    refine BS_iastore dX7_find_23 ?_
    refine BS_iinc dX7_find_24 (by decide) (Nat.le_of_ble_eq_true rfl) ?_
    refine BS_goto (tgt := 12) dX7_find_27 (by decide) ?_
    exact BS_back
noncomputable def F_X7_find_b12 : KK OO := op_loop (F_X7_find_l12)
theorem bs_X7_find_b12 : B_S M_X7_find 12 (F_X7_find_b12) z_O k_O := BS_loop (bs_X7_find_l12)
noncomputable def F_X7_find_b0 : KK OO :=
  op_ald 0 <| op_ild 1 <| op_pfi .int [16] 66 <| op_ald 0 <| op_ild 2 <| op_pfi .int [16] 67 <| op_push (.int 0) <| op_ist 3 <| F_X7_find_b12
theorem bs_X7_find_b0 : B_S M_X7_find 0 (F_X7_find_b0) z_O k_O := by
  unfold F_X7_find_b0
  refine BS_aload_n dX7_find_0 rfl ?_
  refine BS_iload_n dX7_find_1 rfl ?_
  refine BS_pfi p_X7_21 (fun h => by cases h) dX7_find_2 ?_
  refine BS_aload_n dX7_find_5 rfl ?_
  refine BS_iload_n dX7_find_6 rfl ?_
  refine BS_pfi p_X7_25 (fun h => by cases h) dX7_find_7 ?_
  refine BS_iconst dX7_find_10 (by decide) ?_
  refine BS_istore_n dX7_find_11 rfl (Nat.le_of_ble_eq_true rfl) ?_
  exact bs_X7_find_b12
noncomputable def F_X7_find : FF := mk_F 4 F_X7_find_b0
theorem con_X7_find : Con_ yX7_find (ws_ yX7_find cX7_find 4 (some .boolean)) 14 321 F_X7_find := Con_of (by decide +kernel) bs_X7_find_b0
/-- LongerHalf$Turns.at(I)I -/
abbrev M_X7_at : MM := (yX7_at, cX7_at, (some .int), 0, 0, 2, [])
theorem pd_X7_at : (yX7_at.cls ≠ "java/lang/invoke/MethodHandle" ∧ yX7_at.cls ≠ "java/lang/invoke/VarHandle") ∧ (parseMethodDescriptor yX7_at.desc).map (fun d => d.parameters.length) = some 1 := ⟨⟨by decide +kernel, by decide +kernel⟩, by decide +kernel⟩
noncomputable def F_X7_at_b0 : KK OO :=
  op_push (.int 10) <| op_ald 0 <| op_gfr [16] 63 <| op_ild 1 <| op_iald 1 <| op_i2 (fun x y => x * y) <| op_ald 0 <| op_gfr [16] 64 <| op_ild 1 <| op_iald 1 <| op_i2 (fun x y => x + y) <| op_iret .int
theorem bs_X7_at_b0 : B_S M_X7_at 0 (F_X7_at_b0) z_O k_O := by
  unfold F_X7_at_b0
  refine BS_bipush dX7_at_0 (by decide) ?_
  refine BS_aload_n dX7_at_2 rfl ?_
  refine BS_gfr f_X7_9 dX7_at_3 ?_
  refine BS_iload_n dX7_at_6 rfl ?_
  refine BS_iaload dX7_at_7 ?_
  refine BS_imul dX7_at_8 ?_
  refine BS_aload_n dX7_at_9 rfl ?_
  refine BS_gfr f_X7_15 dX7_at_10 ?_
  refine BS_iload_n dX7_at_13 rfl ?_
  refine BS_iaload dX7_at_14 ?_
  refine BS_iadd dX7_at_15 ?_
  exact BS_ireturn dX7_at_16 rfl
noncomputable def F_X7_at : FF := mk_F 2 F_X7_at_b0
theorem con_X7_at : Con_ yX7_at (ws_ yX7_at cX7_at 2 (some .int)) 0 0 F_X7_at := Con_of (by decide +kernel) bs_X7_at_b0
/-- LongerHalf$Drawer.draw()I -/
abbrev M_X4_draw : MM := (yX4_draw, cX4_draw, (some .int), 0, 0, 1, [])
theorem pd_X4_draw : (yX4_draw.cls ≠ "java/lang/invoke/MethodHandle" ∧ yX4_draw.cls ≠ "java/lang/invoke/VarHandle") ∧ (parseMethodDescriptor yX4_draw.desc).map (fun d => d.parameters.length) = some 0 := ⟨⟨by decide +kernel, by decide +kernel⟩, by decide +kernel⟩
noncomputable def F_X4_draw_b0 : KK OO :=
  op_ald 0 <| op_push (.int 75) <| op_ald 0 <| op_gfi [13] 43 <| op_i2 (fun x y => x * y) <| op_push (.int 74) <| op_i2 (fun x y => x + y) <| op_push (.int 65537) <| op_i2d (fun x y => x - x / y * y) <| op_pfi .int [13] 43 <| op_ald 0 <| op_gfi [13] 43 <| op_iret .int
theorem bs_X4_draw_b0 : B_S M_X4_draw 0 (F_X4_draw_b0) z_O k_O := by
  unfold F_X4_draw_b0
  refine BS_aload_n dX4_draw_0 rfl ?_
  refine BS_bipush dX4_draw_1 (by decide) ?_
  refine BS_aload_n dX4_draw_3 rfl ?_
  refine BS_gfi f_X4_25 dX4_draw_4 ?_
  refine BS_imul dX4_draw_7 ?_
  refine BS_bipush dX4_draw_8 (by decide) ?_
  refine BS_iadd dX4_draw_10 ?_
  refine BS_ldc dX4_draw_11 q1509 ?_
  refine BS_irem dX4_draw_13 ?_
  refine BS_pfi p_X4_25 (fun h => by cases h) dX4_draw_14 ?_
  refine BS_aload_n dX4_draw_17 rfl ?_
  refine BS_gfi f_X4_25 dX4_draw_18 ?_
  exact BS_ireturn dX4_draw_21 rfl
noncomputable def F_X4_draw : FF := mk_F 1 F_X4_draw_b0
theorem con_X4_draw : Con_ yX4_draw (ws_ yX4_draw cX4_draw 1 (some .int)) 0 0 F_X4_draw := Con_of (by decide +kernel) bs_X4_draw_b0
/-- LongerHalf$Drawer.become(LLongerHalf$Drawer;)V -/
abbrev M_X4_become : MM := (yX4_become, cX4_become, none, 1, 60, 2, [])
theorem pd_X4_become : (yX4_become.cls ≠ "java/lang/invoke/MethodHandle" ∧ yX4_become.cls ≠ "java/lang/invoke/VarHandle") ∧ (parseMethodDescriptor yX4_become.desc).map (fun d => d.parameters.length) = some 1 := ⟨⟨by decide +kernel, by decide +kernel⟩, by decide +kernel⟩
noncomputable def F_X4_become_b0 : KK OO :=
  op_ald 0 <| op_ald 1 <| op_gfi [13] 41 <| op_pfi .int [13] 41 <| op_ald 0 <| op_ald 1 <| op_gfi [13] 42 <| op_pfi .int [13] 42 <| op_ald 0 <| op_ald 1 <| op_gfi [13] 43 <| op_pfi .int [13] 43 <| op_ald 1 <| op_gfr [13] 39 <| op_push (.int 0) <| op_ald 0 <| op_gfr [13] 39 <| op_push (.int 0) <| op_push (.int 5) <| op_copy <| op_ald 1 <| op_gfr [13] 40 <| op_push (.int 0) <| op_ald 0 <| op_gfr [13] 40 <| op_push (.int 0) <| op_push (.int 6) <| op_copy <| op_vret
theorem bs_X4_become_b0 : B_S M_X4_become 0 (F_X4_become_b0) z_O k_O := by
  unfold F_X4_become_b0
  refine BS_aload_n dX4_become_0 rfl ?_
  refine BS_aload_n dX4_become_1 rfl ?_
  refine BS_gfi f_X4_18 dX4_become_2 ?_
  refine BS_pfi p_X4_18 (fun h => by cases h) dX4_become_5 ?_
  refine BS_aload_n dX4_become_8 rfl ?_
  refine BS_aload_n dX4_become_9 rfl ?_
  refine BS_gfi f_X4_22 dX4_become_10 ?_
  refine BS_pfi p_X4_22 (fun h => by cases h) dX4_become_13 ?_
  refine BS_aload_n dX4_become_16 rfl ?_
  refine BS_aload_n dX4_become_17 rfl ?_
  refine BS_gfi f_X4_25 dX4_become_18 ?_
  refine BS_pfi p_X4_25 (fun h => by cases h) dX4_become_21 ?_
  refine BS_aload_n dX4_become_24 rfl ?_
  refine BS_gfr f_X4_9 dX4_become_25 ?_
  refine BS_iconst dX4_become_28 (by decide) ?_
  refine BS_aload_n dX4_become_29 rfl ?_
  refine BS_gfr f_X4_9 dX4_become_30 ?_
  refine BS_iconst dX4_become_33 (by decide) ?_
  refine BS_iconst dX4_become_34 (by decide) ?_
  refine BS_copy dX4_become_35 q1535 (Nat.le_of_ble_eq_true rfl) (Nat.le_of_ble_eq_true rfl) ?_
  refine BS_aload_n dX4_become_38 rfl ?_
  refine BS_gfr f_X4_15 dX4_become_39 ?_
  refine BS_iconst dX4_become_42 (by decide) ?_
  refine BS_aload_n dX4_become_43 rfl ?_
  refine BS_gfr f_X4_15 dX4_become_44 ?_
  refine BS_iconst dX4_become_47 (by decide) ?_
  refine BS_bipush dX4_become_48 (by decide) ?_
  refine BS_copy dX4_become_50 q1535 (Nat.le_of_ble_eq_true rfl) (Nat.le_of_ble_eq_true rfl) ?_
  exact BS_return dX4_become_53 rfl
noncomputable def F_X4_become : FF := mk_F 2 F_X4_become_b0
theorem con_X4_become : Con_ yX4_become (ws_ yX4_become cX4_become 2 none) 1 60 F_X4_become := Con_of (by decide +kernel) bs_X4_become_b0
