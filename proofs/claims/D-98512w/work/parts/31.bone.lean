/-! printed by emit.py: the functions that the methods compute, and their contracts -/
set_option maxRecDepth 100000
theorem pu_Bo_size : (("LongerHalf$Bone" : String) ≠ "java/lang/invoke/MethodHandle" ∧ ("LongerHalf$Bone" : String) ≠ "java/lang/invoke/VarHandle") ∧ (parseMethodDescriptor "(I)I").map (fun d => d.parameters.length) = some 1 := ⟨⟨by decide +kernel, by decide +kernel⟩, by decide +kernel⟩
theorem pu_Bo_thick : (("LongerHalf$Bone" : String) ≠ "java/lang/invoke/MethodHandle" ∧ ("LongerHalf$Bone" : String) ≠ "java/lang/invoke/VarHandle") ∧ (parseMethodDescriptor "(II)I").map (fun d => d.parameters.length) = some 2 := ⟨⟨by decide +kernel, by decide +kernel⟩, by decide +kernel⟩
theorem pu_Bo_all : (("LongerHalf$Bone" : String) ≠ "java/lang/invoke/MethodHandle" ∧ ("LongerHalf$Bone" : String) ≠ "java/lang/invoke/VarHandle") ∧ (parseMethodDescriptor "(I)I").map (fun d => d.parameters.length) = some 1 := ⟨⟨by decide +kernel, by decide +kernel⟩, by decide +kernel⟩
/-- LongerHalf$Bone.add(II)V -/
abbrev M_X11_add : MM := (yX11_add, cX11_add, none, 0, 0, 3, [])
theorem pd_X11_add : (yX11_add.cls ≠ "java/lang/invoke/MethodHandle" ∧ yX11_add.cls ≠ "java/lang/invoke/VarHandle") ∧ (parseMethodDescriptor yX11_add.desc).map (fun d => d.parameters.length) = some 2 := ⟨⟨by decide +kernel, by decide +kernel⟩, by decide +kernel⟩
noncomputable def F_X11_add_b0 : KK OO :=
  op_ald 0 <| op_gfr [18, 19, 20] 83 <| op_push (.int 6) <| op_ild 1 <| op_i2 (fun x y => x * y) <| op_ald 0 <| op_gfr [18, 19, 20] 84 <| op_ild 1 <| op_iald 1 <| op_i2 (fun x y => x + y) <| op_ild 2 <| op_iast 1 .int <| op_ald 0 <| op_gfr [18, 19, 20] 84 <| op_ild 1 <| op_dup2 <| op_iald 1 <| op_push (.int 1) <| op_i2 (fun x y => x + y) <| op_iast 1 .int <| op_vret
theorem bs_X11_add_b0 : B_S M_X11_add 0 (F_X11_add_b0) z_O k_O := by
  unfold F_X11_add_b0
  refine BS_aload_n dX11_add_0 rfl ?_
  refine BS_gfr f_X11_9 dX11_add_1 ?_
  refine BS_bipush dX11_add_4 (by decide) ?_
  refine BS_iload_n dX11_add_6 rfl ?_
  refine BS_imul dX11_add_7 ?_
  refine BS_aload_n dX11_add_8 rfl ?_
  refine BS_gfr f_X11_15 dX11_add_9 ?_
  refine BS_iload_n dX11_add_12 rfl ?_
  refine BS_iaload dX11_add_13 ?_
  refine BS_iadd dX11_add_14 ?_
  refine BS_iload_n dX11_add_15 rfl ?_
  refine BS_iastore dX11_add_16 ?_
  refine BS_aload_n dX11_add_17 rfl ?_
  refine BS_gfr f_X11_15 dX11_add_18 ?_
  refine BS_iload_n dX11_add_21 rfl ?_
  refine BS_dup2 dX11_add_22 ?_
  refine BS_iaload dX11_add_23 ?_
  refine BS_iconst dX11_add_24 (by decide) ?_
  refine BS_iadd dX11_add_25 ?_
  refine BS_iastore dX11_add_26 ?_
  exact BS_return dX11_add_27 rfl
noncomputable def F_X11_add : FF := mk_F 3 F_X11_add_b0
theorem con_X11_add : Con_ yX11_add (ws_ yX11_add cX11_add 3 none) 0 0 F_X11_add := Con_of (by decide +kernel) bs_X11_add_b0
/-- LongerHalf$Bone.size(I)I -/
abbrev M_X11_size : MM := (yX11_size, cX11_size, (some .int), 0, 0, 2, [])
theorem pd_X11_size : (yX11_size.cls ≠ "java/lang/invoke/MethodHandle" ∧ yX11_size.cls ≠ "java/lang/invoke/VarHandle") ∧ (parseMethodDescriptor yX11_size.desc).map (fun d => d.parameters.length) = some 1 := ⟨⟨by decide +kernel, by decide +kernel⟩, by decide +kernel⟩
noncomputable def F_X11_size_b0 : KK OO :=
  op_ald 0 <| op_gfr [18, 19, 20] 84 <| op_ild 1 <| op_iald 1 <| op_iret .int
theorem bs_X11_size_b0 : B_S M_X11_size 0 (F_X11_size_b0) z_O k_O := by
  unfold F_X11_size_b0
  refine BS_aload_n dX11_size_0 rfl ?_
  refine BS_gfr f_X11_15 dX11_size_1 ?_
  refine BS_iload_n dX11_size_4 rfl ?_
  refine BS_iaload dX11_size_5 ?_
  exact BS_ireturn dX11_size_6 rfl
noncomputable def F_X11_size : FF := mk_F 2 F_X11_size_b0
theorem con_X11_size : Con_ yX11_size (ws_ yX11_size cX11_size 2 (some .int)) 0 0 F_X11_size := Con_of (by decide +kernel) bs_X11_size_b0
/-- LongerHalf$Named.<init>(Ljava/lang/String;I)V -/
abbrev M_X10_init : MM := (yX10_init, cX10_init, none, 1, 52, 3, [])
theorem pd_X10_init : (yX10_init.cls ≠ "java/lang/invoke/MethodHandle" ∧ yX10_init.cls ≠ "java/lang/invoke/VarHandle") ∧ (parseMethodDescriptor yX10_init.desc).map (fun d => d.parameters.length) = some 2 := ⟨⟨by decide +kernel, by decide +kernel⟩, by decide +kernel⟩
noncomputable def F_X10_init_b0 : KK OO :=
  op_ald 0 <| op_oinit <| op_ald 0 <| op_ald 1 <| op_pfr [18, 19, 20, 21, 22, 23, 24] 86 <| op_ald 0 <| op_ild 2 <| op_pfi .int [18, 19, 20, 21, 22, 23, 24] 87 <| op_vret
theorem bs_X10_init_b0 : B_S M_X10_init 0 (F_X10_init_b0) z_O k_O := by
  unfold F_X10_init_b0
  refine BS_aload_n dX10_init_0 rfl ?_
  refine BS_oinit dX10_init_1 q834 q174 q175 (Nat.le_of_ble_eq_true rfl) (Nat.le_of_ble_eq_true rfl) ?_
  refine BS_aload_n dX10_init_4 rfl ?_
  refine BS_aload_n dX10_init_5 rfl ?_
  refine BS_pfr p_X10_7 rfl (fun _ => rfl) dX10_init_6 ?_
  refine BS_aload_n dX10_init_9 rfl ?_
  refine BS_iload_n dX10_init_10 rfl ?_
  refine BS_pfi p_X10_13 (fun _ => rfl) dX10_init_11 ?_
  exact BS_return dX10_init_14 rfl
noncomputable def F_X10_init : FF := mk_F 3 F_X10_init_b0
theorem con_X10_init : Con_ yX10_init (ws_ yX10_init cX10_init 3 none) 1 52 F_X10_init := Con_of (by decide +kernel) bs_X10_init_b0
/-- LongerHalf$Bone.<init>(Ljava/lang/String;I)V -/
abbrev M_X11_init : MM := (yX11_init, cX11_init, none, 2, 74, 3, [])
theorem pd_X11_init : (yX11_init.cls ≠ "java/lang/invoke/MethodHandle" ∧ yX11_init.cls ≠ "java/lang/invoke/VarHandle") ∧ (parseMethodDescriptor yX11_init.desc).map (fun d => d.parameters.length) = some 2 := ⟨⟨by decide +kernel, by decide +kernel⟩, by decide +kernel⟩
noncomputable def F_X11_init_b0 : KK OO :=
  op_ald 0 <| op_ald 1 <| op_ild 2 <| op_call 3 (f_rcv F_X10_init) kx_no <| op_ald 0 <| op_push (.int 12) <| op_newa 1 <| op_pfr [18, 19, 20] 83 <| op_ald 0 <| op_push (.int 2) <| op_newa 1 <| op_pfr [18, 19, 20] 84 <| op_vret
theorem bs_X11_init_b0 : B_S M_X11_init 0 (F_X11_init_b0) z_O k_O := by
  unfold F_X11_init_b0
  refine BS_aload_n dX11_init_0 rfl ?_
  refine BS_aload_n dX11_init_1 rfl ?_
  refine BS_iload_n dX11_init_2 rfl ?_
  refine BS_call (run_I dX11_init_3 con_X10_init q831 q832 q153 q833 rfl pd_X10_init ⟨Nat.le_of_ble_eq_true rfl, Nat.le_of_ble_eq_true rfl⟩) BV_no ?_
  refine BS_aload_n dX11_init_6 rfl ?_
  refine BS_bipush dX11_init_7 (by decide) ?_
  refine BS_newarray_i dX11_init_9 ?_
  refine BS_pfr p_X11_9 rfl (fun _ => rfl) dX11_init_11 ?_
  refine BS_aload_n dX11_init_14 rfl ?_
  refine BS_iconst dX11_init_15 (by decide) ?_
  refine BS_newarray_i dX11_init_16 ?_
  refine BS_pfr p_X11_15 rfl (fun _ => rfl) dX11_init_18 ?_
  exact BS_return dX11_init_21 rfl
noncomputable def F_X11_init : FF := mk_F 3 F_X11_init_b0
theorem con_X11_init : Con_ yX11_init (ws_ yX11_init cX11_init 3 none) 2 74 F_X11_init := Con_of (by decide +kernel) bs_X11_init_b0
/-- LongerHalf$Hen.<init>(Ljava/lang/String;I)V -/
abbrev M_X12_init : MM := (yX12_init, cX12_init, none, 3, 96, 3, [])
theorem pd_X12_init : (yX12_init.cls ≠ "java/lang/invoke/MethodHandle" ∧ yX12_init.cls ≠ "java/lang/invoke/VarHandle") ∧ (parseMethodDescriptor yX12_init.desc).map (fun d => d.parameters.length) = some 2 := ⟨⟨by decide +kernel, by decide +kernel⟩, by decide +kernel⟩
noncomputable def F_X12_init_b0 : KK OO :=
  op_ald 0 <| op_ald 1 <| op_ild 2 <| op_call 3 (f_rcv F_X11_init) kx_no <| op_vret
theorem bs_X12_init_b0 : B_S M_X12_init 0 (F_X12_init_b0) z_O k_O := by
  unfold F_X12_init_b0
  refine BS_aload_n dX12_init_0 rfl ?_
  refine BS_aload_n dX12_init_1 rfl ?_
  refine BS_iload_n dX12_init_2 rfl ?_
  refine BS_call (run_I dX12_init_3 con_X11_init q828 q829 q154 q830 rfl pd_X11_init ⟨Nat.le_of_ble_eq_true rfl, Nat.le_of_ble_eq_true rfl⟩) BV_no ?_
  exact BS_return dX12_init_6 rfl
noncomputable def F_X12_init : FF := mk_F 3 F_X12_init_b0
theorem con_X12_init : Con_ yX12_init (ws_ yX12_init cX12_init 3 none) 3 96 F_X12_init := Con_of (by decide +kernel) bs_X12_init_b0
/-- LongerHalf$Goose.<init>(Ljava/lang/String;I)V -/
abbrev M_X13_init : MM := (yX13_init, cX13_init, none, 3, 96, 3, [])
theorem pd_X13_init : (yX13_init.cls ≠ "java/lang/invoke/MethodHandle" ∧ yX13_init.cls ≠ "java/lang/invoke/VarHandle") ∧ (parseMethodDescriptor yX13_init.desc).map (fun d => d.parameters.length) = some 2 := ⟨⟨by decide +kernel, by decide +kernel⟩, by decide +kernel⟩
noncomputable def F_X13_init_b0 : KK OO :=
  op_ald 0 <| op_ald 1 <| op_ild 2 <| op_call 3 (f_rcv F_X11_init) kx_no <| op_vret
theorem bs_X13_init_b0 : B_S M_X13_init 0 (F_X13_init_b0) z_O k_O := by
  unfold F_X13_init_b0
  refine BS_aload_n dX13_init_0 rfl ?_
  refine BS_aload_n dX13_init_1 rfl ?_
  refine BS_iload_n dX13_init_2 rfl ?_
  refine BS_call (run_I dX13_init_3 con_X11_init q861 q829 q154 q830 rfl pd_X11_init ⟨Nat.le_of_ble_eq_true rfl, Nat.le_of_ble_eq_true rfl⟩) BV_no ?_
  exact BS_return dX13_init_6 rfl
noncomputable def F_X13_init : FF := mk_F 3 F_X13_init_b0
theorem con_X13_init : Con_ yX13_init (ws_ yX13_init cX13_init 3 none) 3 96 F_X13_init := Con_of (by decide +kernel) bs_X13_init_b0
/-- LongerHalf$Boiled.<init>(Ljava/lang/String;I)V -/
abbrev M_X14_init : MM := (yX14_init, cX14_init, none, 3, 96, 3, [])
theorem pd_X14_init : (yX14_init.cls ≠ "java/lang/invoke/MethodHandle" ∧ yX14_init.cls ≠ "java/lang/invoke/VarHandle") ∧ (parseMethodDescriptor yX14_init.desc).map (fun d => d.parameters.length) = some 2 := ⟨⟨by decide +kernel, by decide +kernel⟩, by decide +kernel⟩
noncomputable def F_X14_init_b0 : KK OO :=
  op_ald 0 <| op_ald 1 <| op_ild 2 <| op_call 3 (f_rcv F_X11_init) kx_no <| op_vret
theorem bs_X14_init_b0 : B_S M_X14_init 0 (F_X14_init_b0) z_O k_O := by
  unfold F_X14_init_b0
  refine BS_aload_n dX14_init_0 rfl ?_
  refine BS_aload_n dX14_init_1 rfl ?_
  refine BS_iload_n dX14_init_2 rfl ?_
  refine BS_call (run_I dX14_init_3 con_X11_init q874 q829 q154 q830 rfl pd_X11_init ⟨Nat.le_of_ble_eq_true rfl, Nat.le_of_ble_eq_true rfl⟩) BV_no ?_
  exact BS_return dX14_init_6 rfl
noncomputable def F_X14_init : FF := mk_F 3 F_X14_init_b0
theorem con_X14_init : Con_ yX14_init (ws_ yX14_init cX14_init 3 none) 3 96 F_X14_init := Con_of (by decide +kernel) bs_X14_init_b0
/-- LongerHalf$Person.<init>(Ljava/lang/String;I)V -/
abbrev M_X15_init : MM := (yX15_init, cX15_init, none, 2, 74, 3, [])
theorem pd_X15_init : (yX15_init.cls ≠ "java/lang/invoke/MethodHandle" ∧ yX15_init.cls ≠ "java/lang/invoke/VarHandle") ∧ (parseMethodDescriptor yX15_init.desc).map (fun d => d.parameters.length) = some 2 := ⟨⟨by decide +kernel, by decide +kernel⟩, by decide +kernel⟩
noncomputable def F_X15_init_b0 : KK OO :=
  op_ald 0 <| op_ald 1 <| op_ild 2 <| op_call 3 (f_rcv F_X10_init) kx_no <| op_ald 0 <| op_push (.int 6) <| op_newa 1 <| op_pfr [21, 22, 23, 24] 88 <| op_ald 0 <| op_push (.int (-2)) <| op_pfi .int [21, 22, 23, 24] 94 <| op_vret
theorem bs_X15_init_b0 : B_S M_X15_init 0 (F_X15_init_b0) z_O k_O := by
  unfold F_X15_init_b0
  refine BS_aload_n dX15_init_0 rfl ?_
  refine BS_aload_n dX15_init_1 rfl ?_
  refine BS_iload_n dX15_init_2 rfl ?_
  refine BS_call (run_I dX15_init_3 con_X10_init q921 q832 q153 q833 rfl pd_X10_init ⟨Nat.le_of_ble_eq_true rfl, Nat.le_of_ble_eq_true rfl⟩) BV_no ?_
  refine BS_aload_n dX15_init_6 rfl ?_
  refine BS_bipush dX15_init_7 (by decide) ?_
  refine BS_newarray_i dX15_init_9 ?_
  refine BS_pfr p_X15_9 rfl (fun _ => rfl) dX15_init_11 ?_
  refine BS_aload_n dX15_init_14 rfl ?_
  refine BS_bipush dX15_init_15 (by decide) ?_
  refine BS_pfi p_X15_15 (fun h => by cases h) dX15_init_17 ?_
  exact BS_return dX15_init_20 rfl
noncomputable def F_X15_init : FF := mk_F 3 F_X15_init_b0
theorem con_X15_init : Con_ yX15_init (ws_ yX15_init cX15_init 3 none) 2 74 F_X15_init := Con_of (by decide +kernel) bs_X15_init_b0
/-- LongerHalf$Plain.<init>(Ljava/lang/String;I)V -/
abbrev M_X16_init : MM := (yX16_init, cX16_init, none, 3, 96, 3, [])
theorem pd_X16_init : (yX16_init.cls ≠ "java/lang/invoke/MethodHandle" ∧ yX16_init.cls ≠ "java/lang/invoke/VarHandle") ∧ (parseMethodDescriptor yX16_init.desc).map (fun d => d.parameters.length) = some 2 := ⟨⟨by decide +kernel, by decide +kernel⟩, by decide +kernel⟩
noncomputable def F_X16_init_b0 : KK OO :=
  op_ald 0 <| op_ald 1 <| op_ild 2 <| op_call 3 (f_rcv F_X15_init) kx_no <| op_vret
theorem bs_X16_init_b0 : B_S M_X16_init 0 (F_X16_init_b0) z_O k_O := by
  unfold F_X16_init_b0
  refine BS_aload_n dX16_init_0 rfl ?_
  refine BS_aload_n dX16_init_1 rfl ?_
  refine BS_iload_n dX16_init_2 rfl ?_
  refine BS_call (run_I dX16_init_3 con_X15_init q918 q919 q158 q920 rfl pd_X15_init ⟨Nat.le_of_ble_eq_true rfl, Nat.le_of_ble_eq_true rfl⟩) BV_no ?_
  exact BS_return dX16_init_6 rfl
noncomputable def F_X16_init : FF := mk_F 3 F_X16_init_b0
theorem con_X16_init : Con_ yX16_init (ws_ yX16_init cX16_init 3 none) 3 96 F_X16_init := Con_of (by decide +kernel) bs_X16_init_b0
/-- LongerHalf$Cook.<init>(Ljava/lang/String;I)V -/
abbrev M_X17_init : MM := (yX17_init, cX17_init, none, 3, 96, 3, [])
theorem pd_X17_init : (yX17_init.cls ≠ "java/lang/invoke/MethodHandle" ∧ yX17_init.cls ≠ "java/lang/invoke/VarHandle") ∧ (parseMethodDescriptor yX17_init.desc).map (fun d => d.parameters.length) = some 2 := ⟨⟨by decide +kernel, by decide +kernel⟩, by decide +kernel⟩
noncomputable def F_X17_init_b0 : KK OO :=
  op_ald 0 <| op_ald 1 <| op_ild 2 <| op_call 3 (f_rcv F_X15_init) kx_no <| op_vret
theorem bs_X17_init_b0 : B_S M_X17_init 0 (F_X17_init_b0) z_O k_O := by
  unfold F_X17_init_b0
  refine BS_aload_n dX17_init_0 rfl ?_
  refine BS_aload_n dX17_init_1 rfl ?_
  refine BS_iload_n dX17_init_2 rfl ?_
  refine BS_call (run_I dX17_init_3 con_X15_init q974 q919 q158 q920 rfl pd_X15_init ⟨Nat.le_of_ble_eq_true rfl, Nat.le_of_ble_eq_true rfl⟩) BV_no ?_
  exact BS_return dX17_init_6 rfl
noncomputable def F_X17_init : FF := mk_F 3 F_X17_init_b0
theorem con_X17_init : Con_ yX17_init (ws_ yX17_init cX17_init 3 none) 3 96 F_X17_init := Con_of (by decide +kernel) bs_X17_init_b0
/-- LongerHalf$Child.<init>(Ljava/lang/String;I)V -/
abbrev M_X18_init : MM := (yX18_init, cX18_init, none, 3, 96, 3, [])
theorem pd_X18_init : (yX18_init.cls ≠ "java/lang/invoke/MethodHandle" ∧ yX18_init.cls ≠ "java/lang/invoke/VarHandle") ∧ (parseMethodDescriptor yX18_init.desc).map (fun d => d.parameters.length) = some 2 := ⟨⟨by decide +kernel, by decide +kernel⟩, by decide +kernel⟩
noncomputable def F_X18_init_b0 : KK OO :=
  op_ald 0 <| op_ald 1 <| op_ild 2 <| op_call 3 (f_rcv F_X15_init) kx_no <| op_vret
theorem bs_X18_init_b0 : B_S M_X18_init 0 (F_X18_init_b0) z_O k_O := by
  unfold F_X18_init_b0
  refine BS_aload_n dX18_init_0 rfl ?_
  refine BS_aload_n dX18_init_1 rfl ?_
  refine BS_iload_n dX18_init_2 rfl ?_
  refine BS_call (run_I dX18_init_3 con_X15_init q994 q919 q158 q920 rfl pd_X15_init ⟨Nat.le_of_ble_eq_true rfl, Nat.le_of_ble_eq_true rfl⟩) BV_no ?_
  exact BS_return dX18_init_6 rfl
noncomputable def F_X18_init : FF := mk_F 3 F_X18_init_b0
theorem con_X18_init : Con_ yX18_init (ws_ yX18_init cX18_init 3 none) 3 96 F_X18_init := Con_of (by decide +kernel) bs_X18_init_b0
/-- LongerHalf$Cheat.<init>(Ljava/lang/String;I)V -/
abbrev M_X19_init : MM := (yX19_init, cX19_init, none, 3, 96, 3, [])
theorem pd_X19_init : (yX19_init.cls ≠ "java/lang/invoke/MethodHandle" ∧ yX19_init.cls ≠ "java/lang/invoke/VarHandle") ∧ (parseMethodDescriptor yX19_init.desc).map (fun d => d.parameters.length) = some 2 := ⟨⟨by decide +kernel, by decide +kernel⟩, by decide +kernel⟩
noncomputable def F_X19_init_b0 : KK OO :=
  op_ald 0 <| op_ald 1 <| op_ild 2 <| op_call 3 (f_rcv F_X15_init) kx_no <| op_vret
theorem bs_X19_init_b0 : B_S M_X19_init 0 (F_X19_init_b0) z_O k_O := by
  unfold F_X19_init_b0
  refine BS_aload_n dX19_init_0 rfl ?_
  refine BS_aload_n dX19_init_1 rfl ?_
  refine BS_iload_n dX19_init_2 rfl ?_
  refine BS_call (run_I dX19_init_3 con_X15_init q1014 q919 q158 q920 rfl pd_X15_init ⟨Nat.le_of_ble_eq_true rfl, Nat.le_of_ble_eq_true rfl⟩) BV_no ?_
  exact BS_return dX19_init_6 rfl
noncomputable def F_X19_init : FF := mk_F 3 F_X19_init_b0
theorem con_X19_init : Con_ yX19_init (ws_ yX19_init cX19_init 3 none) 3 96 F_X19_init := Con_of (by decide +kernel) bs_X19_init_b0
/-- LongerHalf$Bone.isRubber()Z -/
abbrev M_X11_isRubber : MM := (yX11_isRubber, cX11_isRubber, (some .boolean), 0, 0, 1, [])
theorem pd_X11_isRubber : (yX11_isRubber.cls ≠ "java/lang/invoke/MethodHandle" ∧ yX11_isRubber.cls ≠ "java/lang/invoke/VarHandle") ∧ (parseMethodDescriptor yX11_isRubber.desc).map (fun d => d.parameters.length) = some 0 := ⟨⟨by decide +kernel, by decide +kernel⟩, by decide +kernel⟩
noncomputable def F_X11_isRubber_b0 : KK OO :=
  op_push (.int 0) <| op_iret .boolean
theorem bs_X11_isRubber_b0 : B_S M_X11_isRubber 0 (F_X11_isRubber_b0) z_O k_O := by
  unfold F_X11_isRubber_b0
  refine BS_iconst dX11_isRubber_0 (by decide) ?_
  exact BS_ireturn dX11_isRubber_1 rfl
noncomputable def F_X11_isRubber : FF := mk_F 1 F_X11_isRubber_b0
theorem con_X11_isRubber : Con_ yX11_isRubber (ws_ yX11_isRubber cX11_isRubber 1 (some .boolean)) 0 0 F_X11_isRubber := Con_of (by decide +kernel) bs_X11_isRubber_b0
/-- LongerHalf$Boiled.isRubber()Z -/
abbrev M_X14_isRubber : MM := (yX14_isRubber, cX14_isRubber, (some .boolean), 0, 0, 1, [])
theorem pd_X14_isRubber : (yX14_isRubber.cls ≠ "java/lang/invoke/MethodHandle" ∧ yX14_isRubber.cls ≠ "java/lang/invoke/VarHandle") ∧ (parseMethodDescriptor yX14_isRubber.desc).map (fun d => d.parameters.length) = some 0 := ⟨⟨by decide +kernel, by decide +kernel⟩, by decide +kernel⟩
noncomputable def F_X14_isRubber_b0 : KK OO :=
  op_push (.int 1) <| op_iret .boolean
theorem bs_X14_isRubber_b0 : B_S M_X14_isRubber 0 (F_X14_isRubber_b0) z_O k_O := by
  unfold F_X14_isRubber_b0
  refine BS_iconst dX14_isRubber_0 (by decide) ?_
  exact BS_ireturn dX14_isRubber_1 rfl
noncomputable def F_X14_isRubber : FF := mk_F 1 F_X14_isRubber_b0
theorem con_X14_isRubber : Con_ yX14_isRubber (ws_ yX14_isRubber cX14_isRubber 1 (some .boolean)) 0 0 F_X14_isRubber := Con_of (by decide +kernel) bs_X14_isRubber_b0
/-- LongerHalf$Hen.kind()I -/
abbrev M_X12_kind : MM := (yX12_kind, cX12_kind, (some .int), 0, 0, 1, [])
theorem pd_X12_kind : (yX12_kind.cls ≠ "java/lang/invoke/MethodHandle" ∧ yX12_kind.cls ≠ "java/lang/invoke/VarHandle") ∧ (parseMethodDescriptor yX12_kind.desc).map (fun d => d.parameters.length) = some 0 := ⟨⟨by decide +kernel, by decide +kernel⟩, by decide +kernel⟩
noncomputable def F_X12_kind_b0 : KK OO :=
  op_push (.int 0) <| op_iret .int
theorem bs_X12_kind_b0 : B_S M_X12_kind 0 (F_X12_kind_b0) z_O k_O := by
  unfold F_X12_kind_b0
  refine BS_iconst dX12_kind_0 (by decide) ?_
  exact BS_ireturn dX12_kind_1 rfl
noncomputable def F_X12_kind : FF := mk_F 1 F_X12_kind_b0
theorem con_X12_kind : Con_ yX12_kind (ws_ yX12_kind cX12_kind 1 (some .int)) 0 0 F_X12_kind := Con_of (by decide +kernel) bs_X12_kind_b0
/-- LongerHalf$Goose.kind()I -/
abbrev M_X13_kind : MM := (yX13_kind, cX13_kind, (some .int), 0, 0, 1, [])
theorem pd_X13_kind : (yX13_kind.cls ≠ "java/lang/invoke/MethodHandle" ∧ yX13_kind.cls ≠ "java/lang/invoke/VarHandle") ∧ (parseMethodDescriptor yX13_kind.desc).map (fun d => d.parameters.length) = some 0 := ⟨⟨by decide +kernel, by decide +kernel⟩, by decide +kernel⟩
noncomputable def F_X13_kind_b0 : KK OO :=
  op_push (.int 1) <| op_iret .int
theorem bs_X13_kind_b0 : B_S M_X13_kind 0 (F_X13_kind_b0) z_O k_O := by
  unfold F_X13_kind_b0
  refine BS_iconst dX13_kind_0 (by decide) ?_
  exact BS_ireturn dX13_kind_1 rfl
noncomputable def F_X13_kind : FF := mk_F 1 F_X13_kind_b0
theorem con_X13_kind : Con_ yX13_kind (ws_ yX13_kind cX13_kind 1 (some .int)) 0 0 F_X13_kind := Con_of (by decide +kernel) bs_X13_kind_b0
/-- LongerHalf$Boiled.kind()I -/
abbrev M_X14_kind : MM := (yX14_kind, cX14_kind, (some .int), 0, 0, 1, [])
theorem pd_X14_kind : (yX14_kind.cls ≠ "java/lang/invoke/MethodHandle" ∧ yX14_kind.cls ≠ "java/lang/invoke/VarHandle") ∧ (parseMethodDescriptor yX14_kind.desc).map (fun d => d.parameters.length) = some 0 := ⟨⟨by decide +kernel, by decide +kernel⟩, by decide +kernel⟩
noncomputable def F_X14_kind_b0 : KK OO :=
  op_push (.int 2) <| op_iret .int
theorem bs_X14_kind_b0 : B_S M_X14_kind 0 (F_X14_kind_b0) z_O k_O := by
  unfold F_X14_kind_b0
  refine BS_iconst dX14_kind_0 (by decide) ?_
  exact BS_ireturn dX14_kind_1 rfl
noncomputable def F_X14_kind : FF := mk_F 1 F_X14_kind_b0
theorem con_X14_kind : Con_ yX14_kind (ws_ yX14_kind cX14_kind 1 (some .int)) 0 0 F_X14_kind := Con_of (by decide +kernel) bs_X14_kind_b0
/-- LongerHalf$Bone.thick(II)I -/
abbrev M_X11_thick : MM := (yX11_thick, cX11_thick, (some .int), 0, 0, 3, [])
theorem pd_X11_thick : (yX11_thick.cls ≠ "java/lang/invoke/MethodHandle" ∧ yX11_thick.cls ≠ "java/lang/invoke/VarHandle") ∧ (parseMethodDescriptor yX11_thick.desc).map (fun d => d.parameters.length) = some 2 := ⟨⟨by decide +kernel, by decide +kernel⟩, by decide +kernel⟩
noncomputable def F_X11_thick_b0 : KK OO :=
  op_ald 0 <| op_gfr [18, 19, 20] 83 <| op_push (.int 6) <| op_ild 1 <| op_i2 (fun x y => x * y) <| op_ild 2 <| op_i2 (fun x y => x + y) <| op_iald 1 <| op_iret .int
theorem bs_X11_thick_b0 : B_S M_X11_thick 0 (F_X11_thick_b0) z_O k_O := by
  unfold F_X11_thick_b0
  refine BS_aload_n dX11_thick_0 rfl ?_
  refine BS_gfr f_X11_9 dX11_thick_1 ?_
  refine BS_bipush dX11_thick_4 (by decide) ?_
  refine BS_iload_n dX11_thick_6 rfl ?_
  refine BS_imul dX11_thick_7 ?_
  refine BS_iload_n dX11_thick_8 rfl ?_
  refine BS_iadd dX11_thick_9 ?_
  refine BS_iaload dX11_thick_10 ?_
  exact BS_ireturn dX11_thick_11 rfl
noncomputable def F_X11_thick : FF := mk_F 3 F_X11_thick_b0
theorem con_X11_thick : Con_ yX11_thick (ws_ yX11_thick cX11_thick 3 (some .int)) 0 0 F_X11_thick := Con_of (by decide +kernel) bs_X11_thick_b0
/-- LongerHalf$Plain.kind()I -/
abbrev M_X16_kind : MM := (yX16_kind, cX16_kind, (some .int), 0, 0, 1, [])
theorem pd_X16_kind : (yX16_kind.cls ≠ "java/lang/invoke/MethodHandle" ∧ yX16_kind.cls ≠ "java/lang/invoke/VarHandle") ∧ (parseMethodDescriptor yX16_kind.desc).map (fun d => d.parameters.length) = some 0 := ⟨⟨by decide +kernel, by decide +kernel⟩, by decide +kernel⟩
noncomputable def F_X16_kind_b0 : KK OO :=
  op_push (.int 0) <| op_iret .int
theorem bs_X16_kind_b0 : B_S M_X16_kind 0 (F_X16_kind_b0) z_O k_O := by
  unfold F_X16_kind_b0
  refine BS_iconst dX16_kind_0 (by decide) ?_
  exact BS_ireturn dX16_kind_1 rfl
noncomputable def F_X16_kind : FF := mk_F 1 F_X16_kind_b0
theorem con_X16_kind : Con_ yX16_kind (ws_ yX16_kind cX16_kind 1 (some .int)) 0 0 F_X16_kind := Con_of (by decide +kernel) bs_X16_kind_b0
/-- LongerHalf$Cook.kind()I -/
abbrev M_X17_kind : MM := (yX17_kind, cX17_kind, (some .int), 0, 0, 1, [])
theorem pd_X17_kind : (yX17_kind.cls ≠ "java/lang/invoke/MethodHandle" ∧ yX17_kind.cls ≠ "java/lang/invoke/VarHandle") ∧ (parseMethodDescriptor yX17_kind.desc).map (fun d => d.parameters.length) = some 0 := ⟨⟨by decide +kernel, by decide +kernel⟩, by decide +kernel⟩
noncomputable def F_X17_kind_b0 : KK OO :=
  op_push (.int 1) <| op_iret .int
theorem bs_X17_kind_b0 : B_S M_X17_kind 0 (F_X17_kind_b0) z_O k_O := by
  unfold F_X17_kind_b0
  refine BS_iconst dX17_kind_0 (by decide) ?_
  exact BS_ireturn dX17_kind_1 rfl
noncomputable def F_X17_kind : FF := mk_F 1 F_X17_kind_b0
theorem con_X17_kind : Con_ yX17_kind (ws_ yX17_kind cX17_kind 1 (some .int)) 0 0 F_X17_kind := Con_of (by decide +kernel) bs_X17_kind_b0
/-- LongerHalf$Child.kind()I -/
abbrev M_X18_kind : MM := (yX18_kind, cX18_kind, (some .int), 0, 0, 1, [])
theorem pd_X18_kind : (yX18_kind.cls ≠ "java/lang/invoke/MethodHandle" ∧ yX18_kind.cls ≠ "java/lang/invoke/VarHandle") ∧ (parseMethodDescriptor yX18_kind.desc).map (fun d => d.parameters.length) = some 0 := ⟨⟨by decide +kernel, by decide +kernel⟩, by decide +kernel⟩
noncomputable def F_X18_kind_b0 : KK OO :=
  op_push (.int 2) <| op_iret .int
theorem bs_X18_kind_b0 : B_S M_X18_kind 0 (F_X18_kind_b0) z_O k_O := by
  unfold F_X18_kind_b0
  refine BS_iconst dX18_kind_0 (by decide) ?_
  exact BS_ireturn dX18_kind_1 rfl
noncomputable def F_X18_kind : FF := mk_F 1 F_X18_kind_b0
theorem con_X18_kind : Con_ yX18_kind (ws_ yX18_kind cX18_kind 1 (some .int)) 0 0 F_X18_kind := Con_of (by decide +kernel) bs_X18_kind_b0
/-- LongerHalf$Cheat.kind()I -/
abbrev M_X19_kind : MM := (yX19_kind, cX19_kind, (some .int), 0, 0, 1, [])
theorem pd_X19_kind : (yX19_kind.cls ≠ "java/lang/invoke/MethodHandle" ∧ yX19_kind.cls ≠ "java/lang/invoke/VarHandle") ∧ (parseMethodDescriptor yX19_kind.desc).map (fun d => d.parameters.length) = some 0 := ⟨⟨by decide +kernel, by decide +kernel⟩, by decide +kernel⟩
noncomputable def F_X19_kind_b0 : KK OO :=
  op_push (.int 3) <| op_iret .int
theorem bs_X19_kind_b0 : B_S M_X19_kind 0 (F_X19_kind_b0) z_O k_O := by
  unfold F_X19_kind_b0
  refine BS_iconst dX19_kind_0 (by decide) ?_
  exact BS_ireturn dX19_kind_1 rfl
noncomputable def F_X19_kind : FF := mk_F 1 F_X19_kind_b0
theorem con_X19_kind : Con_ yX19_kind (ws_ yX19_kind cX19_kind 1 (some .int)) 0 0 F_X19_kind := Con_of (by decide +kernel) bs_X19_kind_b0
/-- LongerHalf$Person.presses()Z -/
abbrev M_X15_presses : MM := (yX15_presses, cX15_presses, (some .boolean), 0, 0, 1, [])
theorem pd_X15_presses : (yX15_presses.cls ≠ "java/lang/invoke/MethodHandle" ∧ yX15_presses.cls ≠ "java/lang/invoke/VarHandle") ∧ (parseMethodDescriptor yX15_presses.desc).map (fun d => d.parameters.length) = some 0 := ⟨⟨by decide +kernel, by decide +kernel⟩, by decide +kernel⟩
noncomputable def F_X15_presses_b0 : KK OO :=
  op_push (.int 0) <| op_iret .boolean
theorem bs_X15_presses_b0 : B_S M_X15_presses 0 (F_X15_presses_b0) z_O k_O := by
  unfold F_X15_presses_b0
  refine BS_iconst dX15_presses_0 (by decide) ?_
  exact BS_ireturn dX15_presses_1 rfl
noncomputable def F_X15_presses : FF := mk_F 1 F_X15_presses_b0
theorem con_X15_presses : Con_ yX15_presses (ws_ yX15_presses cX15_presses 1 (some .boolean)) 0 0 F_X15_presses := Con_of (by decide +kernel) bs_X15_presses_b0
/-- LongerHalf$Cheat.presses()Z -/
abbrev M_X19_presses : MM := (yX19_presses, cX19_presses, (some .boolean), 0, 0, 1, [])
theorem pd_X19_presses : (yX19_presses.cls ≠ "java/lang/invoke/MethodHandle" ∧ yX19_presses.cls ≠ "java/lang/invoke/VarHandle") ∧ (parseMethodDescriptor yX19_presses.desc).map (fun d => d.parameters.length) = some 0 := ⟨⟨by decide +kernel, by decide +kernel⟩, by decide +kernel⟩
noncomputable def F_X19_presses_b0 : KK OO :=
  op_push (.int 1) <| op_iret .boolean
theorem bs_X19_presses_b0 : B_S M_X19_presses 0 (F_X19_presses_b0) z_O k_O := by
  unfold F_X19_presses_b0
  refine BS_iconst dX19_presses_0 (by decide) ?_
  exact BS_ireturn dX19_presses_1 rfl
noncomputable def F_X19_presses : FF := mk_F 1 F_X19_presses_b0
theorem con_X19_presses : Con_ yX19_presses (ws_ yX19_presses cX19_presses 1 (some .boolean)) 0 0 F_X19_presses := Con_of (by decide +kernel) bs_X19_presses_b0
/-- LongerHalf$Person.mustMove()Z -/
abbrev M_X15_mustMove : MM := (yX15_mustMove, cX15_mustMove, (some .boolean), 0, 0, 1, [])
theorem pd_X15_mustMove : (yX15_mustMove.cls ≠ "java/lang/invoke/MethodHandle" ∧ yX15_mustMove.cls ≠ "java/lang/invoke/VarHandle") ∧ (parseMethodDescriptor yX15_mustMove.desc).map (fun d => d.parameters.length) = some 0 := ⟨⟨by decide +kernel, by decide +kernel⟩, by decide +kernel⟩
noncomputable def F_X15_mustMove_b0 : KK OO :=
  op_push (.int 0) <| op_iret .boolean
theorem bs_X15_mustMove_b0 : B_S M_X15_mustMove 0 (F_X15_mustMove_b0) z_O k_O := by
  unfold F_X15_mustMove_b0
  refine BS_iconst dX15_mustMove_0 (by decide) ?_
  exact BS_ireturn dX15_mustMove_1 rfl
noncomputable def F_X15_mustMove : FF := mk_F 1 F_X15_mustMove_b0
theorem con_X15_mustMove : Con_ yX15_mustMove (ws_ yX15_mustMove cX15_mustMove 1 (some .boolean)) 0 0 F_X15_mustMove := Con_of (by decide +kernel) bs_X15_mustMove_b0
/-- LongerHalf$Child.mustMove()Z -/
abbrev M_X18_mustMove : MM := (yX18_mustMove, cX18_mustMove, (some .boolean), 0, 0, 1, [])
theorem pd_X18_mustMove : (yX18_mustMove.cls ≠ "java/lang/invoke/MethodHandle" ∧ yX18_mustMove.cls ≠ "java/lang/invoke/VarHandle") ∧ (parseMethodDescriptor yX18_mustMove.desc).map (fun d => d.parameters.length) = some 0 := ⟨⟨by decide +kernel, by decide +kernel⟩, by decide +kernel⟩
noncomputable def F_X18_mustMove_b0 : KK OO :=
  op_push (.int 1) <| op_iret .boolean
theorem bs_X18_mustMove_b0 : B_S M_X18_mustMove 0 (F_X18_mustMove_b0) z_O k_O := by
  unfold F_X18_mustMove_b0
  refine BS_iconst dX18_mustMove_0 (by decide) ?_
  exact BS_ireturn dX18_mustMove_1 rfl
noncomputable def F_X18_mustMove : FF := mk_F 1 F_X18_mustMove_b0
theorem con_X18_mustMove : Con_ yX18_mustMove (ws_ yX18_mustMove cX18_mustMove 1 (some .boolean)) 0 0 F_X18_mustMove := Con_of (by decide +kernel) bs_X18_mustMove_b0
/-- LongerHalf$Bone.places()I -/
abbrev M_X11_places : MM := (yX11_places, cX11_places, (some .int), 0, 0, 1, [])
theorem pd_X11_places : (yX11_places.cls ≠ "java/lang/invoke/MethodHandle" ∧ yX11_places.cls ≠ "java/lang/invoke/VarHandle") ∧ (parseMethodDescriptor yX11_places.desc).map (fun d => d.parameters.length) = some 0 := ⟨⟨by decide +kernel, by decide +kernel⟩, by decide +kernel⟩
noncomputable def F_X11_places_b0 : KK OO :=
  op_ald 0 <| op_gfr [18, 19, 20] 84 <| op_push (.int 0) <| op_iald 1 <| op_ald 0 <| op_gfr [18, 19, 20] 84 <| op_push (.int 1) <| op_iald 1 <| op_i2 (fun x y => x + y) <| op_iret .int
theorem bs_X11_places_b0 : B_S M_X11_places 0 (F_X11_places_b0) z_O k_O := by
  unfold F_X11_places_b0
  refine BS_aload_n dX11_places_0 rfl ?_
  refine BS_gfr f_X11_15 dX11_places_1 ?_
  refine BS_iconst dX11_places_4 (by decide) ?_
  refine BS_iaload dX11_places_5 ?_
  refine BS_aload_n dX11_places_6 rfl ?_
  refine BS_gfr f_X11_15 dX11_places_7 ?_
  refine BS_iconst dX11_places_10 (by decide) ?_
  refine BS_iaload dX11_places_11 ?_
  refine BS_iadd dX11_places_12 ?_
  exact BS_ireturn dX11_places_13 rfl
noncomputable def F_X11_places : FF := mk_F 1 F_X11_places_b0
theorem con_X11_places : Con_ yX11_places (ws_ yX11_places cX11_places 1 (some .int)) 0 0 F_X11_places := Con_of (by decide +kernel) bs_X11_places_b0
/-- LongerHalf$Person.hold(LLongerHalf$Bone;I)I -/
abbrev M_X15_hold : MM := (yX15_hold, cX15_hold, (some .int), 1, 30, 3, [])
theorem pd_X15_hold : (yX15_hold.cls ≠ "java/lang/invoke/MethodHandle" ∧ yX15_hold.cls ≠ "java/lang/invoke/VarHandle") ∧ (parseMethodDescriptor yX15_hold.desc).map (fun d => d.parameters.length) = some 2 := ⟨⟨by decide +kernel, by decide +kernel⟩, by decide +kernel⟩
noncomputable def F_X15_hold_b0 : KK OO :=
  op_ald 0 <| op_gfi [21, 22, 23, 24] 90 <| op_ald 1 <| op_ild 2 <| op_call 2 (f_or (f_kd 18 F_X11_size) (f_or (f_kd 19 F_X11_size) (f_kd 20 F_X11_size))) kx_no <| op_m2i (fun x y => if y < x then y else x) <| op_iret .int
theorem bs_X15_hold_b0 : B_S M_X15_hold 0 (F_X15_hold_b0) z_O k_O := by
  unfold F_X15_hold_b0
  refine BS_aload_n dX15_hold_0 rfl ?_
  refine BS_gfi f_X15_19 dX15_hold_1 ?_
  refine BS_aload_n dX15_hold_4 rfl ?_
  refine BS_iload_n dX15_hold_5 rfl ?_
  refine BS_call ((run_or (run_U dX15_hold_6 con_X11_size (ci := 8) rfl q1357 q888 q891 q887 q154 q892 (Or.inl ⟨_, _, _, q887, q892⟩) pu_Bo_size ⟨Nat.le_of_ble_eq_true rfl, Nat.le_of_ble_eq_true rfl⟩) (run_or (run_U dX15_hold_6 con_X11_size (ci := 9) rfl q1357 q888 q890 q887 q154 q892 (Or.inl ⟨_, _, _, q887, q892⟩) pu_Bo_size ⟨Nat.le_of_ble_eq_true rfl, Nat.le_of_ble_eq_true rfl⟩) (run_U dX15_hold_6 con_X11_size (ci := 10) rfl q1357 q888 q889 q887 q154 q892 (Or.inl ⟨_, _, _, q887, q892⟩) pu_Bo_size ⟨Nat.le_of_ble_eq_true rfl, Nat.le_of_ble_eq_true rfl⟩)))) BV_no ?_
  refine BS_mmin dX15_hold_9 q1358 (Nat.le_of_ble_eq_true rfl) (Nat.le_of_ble_eq_true rfl) ?_
  exact BS_ireturn dX15_hold_12 rfl
noncomputable def F_X15_hold : FF := mk_F 3 F_X15_hold_b0
theorem con_X15_hold : Con_ yX15_hold (ws_ yX15_hold cX15_hold 3 (some .int)) 1 30 F_X15_hold := Con_of (by decide +kernel) bs_X15_hold_b0
/-- LongerHalf$Person.chooses(LLongerHalf$Bone;JJ)I -/
abbrev M_X15_chooses : MM := (yX15_chooses, cX15_chooses, (some .int), 0, 0, 6, [])
theorem pd_X15_chooses : (yX15_chooses.cls ≠ "java/lang/invoke/MethodHandle" ∧ yX15_chooses.cls ≠ "java/lang/invoke/VarHandle") ∧ (parseMethodDescriptor yX15_chooses.desc).map (fun d => d.parameters.length) = some 3 := ⟨⟨by decide +kernel, by decide +kernel⟩, by decide +kernel⟩
noncomputable def F_X15_chooses_b0 : KK OO :=
  op_lld 4 <| op_lld 2 <| op_lcmp <| op_ile (op_push (.int 0) <| op_iret .int) (op_push (.int 1) <| op_iret .int)
theorem bs_X15_chooses_b0 : B_S M_X15_chooses 0 (F_X15_chooses_b0) z_O k_O := by
  unfold F_X15_chooses_b0
  refine BS_lload dX15_chooses_0 ?_
  refine BS_lload_n dX15_chooses_2 rfl ?_
  refine BS_lcmp dX15_chooses_3 ?_
  refine BS_if_le (tgt := 11) dX15_chooses_4 (by decide) ?_ ?_
  · refine BS_iconst dX15_chooses_11 (by decide) ?_
    exact BS_ireturn dX15_chooses_12 rfl
  · refine BS_iconst dX15_chooses_7 (by decide) ?_
    refine BS_goto (tgt := 12) dX15_chooses_8 (by decide) ?_
    exact BS_ireturn dX15_chooses_12 rfl
noncomputable def F_X15_chooses : FF := mk_F 6 F_X15_chooses_b0
theorem con_X15_chooses : Con_ yX15_chooses (ws_ yX15_chooses cX15_chooses 6 (some .int)) 0 0 F_X15_chooses := Con_of (by decide +kernel) bs_X15_chooses_b0
/-- LongerHalf$Bone.all(I)I -/
abbrev M_X11_all : MM := (yX11_all, cX11_all, (some .int), 1, 22, 4, [])
theorem pd_X11_all : (yX11_all.cls ≠ "java/lang/invoke/MethodHandle" ∧ yX11_all.cls ≠ "java/lang/invoke/VarHandle") ∧ (parseMethodDescriptor yX11_all.desc).map (fun d => d.parameters.length) = some 1 := ⟨⟨by decide +kernel, by decide +kernel⟩, by decide +kernel⟩
noncomputable def F_X11_all_l4 : KK (L_S ⊕ OO) :=
  op_ild 3 <| op_ald 0 <| op_gfr [18, 19, 20] 84 <| op_ild 1 <| op_iald 1 <| op_cge (op_exit <| op_ild 2 <| op_iret .int) (op_ild 2 <| op_ald 0 <| op_ild 1 <| op_ild 3 <| op_call 3 (f_or (f_kd 18 F_X11_thick) (f_or (f_kd 19 F_X11_thick) (f_kd 20 F_X11_thick))) kx_no <| op_i2 (fun x y => x + y) <| op_ist 2 <| op_iinc 3 1 <| op_back)
theorem bs_X11_all_l4 : B_S M_X11_all 4 (F_X11_all_l4) (z_L z_O) (k_L 4 k_O) := by
  unfold F_X11_all_l4
  refine BS_iload_n dX11_all_4 rfl ?_
  refine BS_aload_n dX11_all_5 rfl ?_
  refine BS_gfr f_X11_15 dX11_all_6 ?_
  refine BS_iload_n dX11_all_9 rfl ?_
  refine BS_iaload dX11_all_10 ?_
  refine BS_icmp_ge (tgt := 29) dX11_all_11 (by decide) ?_ ?_
  · refine BS_exit ?_
    refine BS_iload_n dX11_all_29 rfl ?_
    exact BS_ireturn dX11_all_30 rfl
  · refine BS_iload_n dX11_all_14 rfl ?_
    refine BS_aload_n dX11_all_15 rfl ?_
    refine BS_iload_n dX11_all_16 rfl ?_
    refine BS_iload_n dX11_all_17 rfl ?_
    refine BS_call ((run_or (run_U dX11_all_18 con_X11_thick (ci := 8) rfl q1394 q1117 q1120 q1116 q154 q1121 (Or.inl ⟨_, _, _, q1116, q1121⟩) pu_Bo_thick ⟨Nat.le_of_ble_eq_true rfl, Nat.le_of_ble_eq_true rfl⟩) (run_or (run_U dX11_all_18 con_X11_thick (ci := 9) rfl q1394 q1117 q1119 q1116 q154 q1121 (Or.inl ⟨_, _, _, q1116, q1121⟩) pu_Bo_thick ⟨Nat.le_of_ble_eq_true rfl, Nat.le_of_ble_eq_true rfl⟩) (run_U dX11_all_18 con_X11_thick (ci := 10) rfl q1394 q1117 q1118 q1116 q154 q1121 (Or.inl ⟨_, _, _, q1116, q1121⟩) pu_Bo_thick ⟨Nat.le_of_ble_eq_true rfl, Nat.le_of_ble_eq_true rfl⟩)))) BV_no ?_
    refine BS_iadd dX11_all_21 ?_
    refine BS_istore_n dX11_all_22 rfl (Nat.le_of_ble_eq_true rfl) ?_
    refine BS_iinc dX11_all_23 (by decide) (Nat.le_of_ble_eq_true rfl) ?_
    refine BS_goto (tgt := 4) dX11_all_26 (by decide) ?_
    exact BS_back
noncomputable def F_X11_all_b4 : KK OO := op_loop (F_X11_all_l4)
theorem bs_X11_all_b4 : B_S M_X11_all 4 (F_X11_all_b4) z_O k_O := BS_loop (bs_X11_all_l4)
noncomputable def F_X11_all_b0 : KK OO :=
  op_push (.int 0) <| op_ist 2 <| op_push (.int 0) <| op_ist 3 <| F_X11_all_b4
theorem bs_X11_all_b0 : B_S M_X11_all 0 (F_X11_all_b0) z_O k_O := by
  unfold F_X11_all_b0
  refine BS_iconst dX11_all_0 (by decide) ?_
  refine BS_istore_n dX11_all_1 rfl (Nat.le_of_ble_eq_true rfl) ?_
  refine BS_iconst dX11_all_2 (by decide) ?_
  refine BS_istore_n dX11_all_3 rfl (Nat.le_of_ble_eq_true rfl) ?_
  exact bs_X11_all_b4
noncomputable def F_X11_all : FF := mk_F 4 F_X11_all_b0
theorem con_X11_all : Con_ yX11_all (ws_ yX11_all cX11_all 4 (some .int)) 1 22 F_X11_all := Con_of (by decide +kernel) bs_X11_all_b0
/-- LongerHalf$Cook.chooses(LLongerHalf$Bone;JJ)I -/
abbrev M_X17_chooses : MM := (yX17_chooses, cX17_chooses, (some .int), 2, 45, 6, [])
theorem pd_X17_chooses : (yX17_chooses.cls ≠ "java/lang/invoke/MethodHandle" ∧ yX17_chooses.cls ≠ "java/lang/invoke/VarHandle") ∧ (parseMethodDescriptor yX17_chooses.desc).map (fun d => d.parameters.length) = some 3 := ⟨⟨by decide +kernel, by decide +kernel⟩, by decide +kernel⟩
noncomputable def F_X17_chooses_b0 : KK OO :=
  op_ald 1 <| op_push (.int 1) <| op_call 2 (f_or (f_kd 18 F_X11_all) (f_or (f_kd 19 F_X11_all) (f_kd 20 F_X11_all))) kx_no <| op_ald 1 <| op_push (.int 0) <| op_call 2 (f_or (f_kd 18 F_X11_all) (f_or (f_kd 19 F_X11_all) (f_kd 20 F_X11_all))) kx_no <| op_cle (op_push (.int 0) <| op_iret .int) (op_push (.int 1) <| op_iret .int)
theorem bs_X17_chooses_b0 : B_S M_X17_chooses 0 (F_X17_chooses_b0) z_O k_O := by
  unfold F_X17_chooses_b0
  refine BS_aload_n dX17_chooses_0 rfl ?_
  refine BS_iconst dX17_chooses_1 (by decide) ?_
  refine BS_call ((run_or (run_U dX17_chooses_2 con_X11_all (ci := 8) rfl q1387 q1389 q1392 q1388 q154 q1393 (Or.inl ⟨_, _, _, q1388, q1393⟩) pu_Bo_all ⟨Nat.le_of_ble_eq_true rfl, Nat.le_of_ble_eq_true rfl⟩) (run_or (run_U dX17_chooses_2 con_X11_all (ci := 9) rfl q1387 q1389 q1391 q1388 q154 q1393 (Or.inl ⟨_, _, _, q1388, q1393⟩) pu_Bo_all ⟨Nat.le_of_ble_eq_true rfl, Nat.le_of_ble_eq_true rfl⟩) (run_U dX17_chooses_2 con_X11_all (ci := 10) rfl q1387 q1389 q1390 q1388 q154 q1393 (Or.inl ⟨_, _, _, q1388, q1393⟩) pu_Bo_all ⟨Nat.le_of_ble_eq_true rfl, Nat.le_of_ble_eq_true rfl⟩)))) BV_no ?_
  refine BS_aload_n dX17_chooses_5 rfl ?_
  refine BS_iconst dX17_chooses_6 (by decide) ?_
  refine BS_call ((run_or (run_U dX17_chooses_7 con_X11_all (ci := 8) rfl q1387 q1389 q1392 q1388 q154 q1393 (Or.inl ⟨_, _, _, q1388, q1393⟩) pu_Bo_all ⟨Nat.le_of_ble_eq_true rfl, Nat.le_of_ble_eq_true rfl⟩) (run_or (run_U dX17_chooses_7 con_X11_all (ci := 9) rfl q1387 q1389 q1391 q1388 q154 q1393 (Or.inl ⟨_, _, _, q1388, q1393⟩) pu_Bo_all ⟨Nat.le_of_ble_eq_true rfl, Nat.le_of_ble_eq_true rfl⟩) (run_U dX17_chooses_7 con_X11_all (ci := 10) rfl q1387 q1389 q1390 q1388 q154 q1393 (Or.inl ⟨_, _, _, q1388, q1393⟩) pu_Bo_all ⟨Nat.le_of_ble_eq_true rfl, Nat.le_of_ble_eq_true rfl⟩)))) BV_no ?_
  refine BS_icmp_le (tgt := 17) dX17_chooses_10 (by decide) ?_ ?_
  · refine BS_iconst dX17_chooses_17 (by decide) ?_
    exact BS_ireturn dX17_chooses_18 rfl
  · refine BS_iconst dX17_chooses_13 (by decide) ?_
    refine BS_goto (tgt := 18) dX17_chooses_14 (by decide) ?_
    exact BS_ireturn dX17_chooses_18 rfl
noncomputable def F_X17_chooses : FF := mk_F 6 F_X17_chooses_b0
theorem con_X17_chooses : Con_ yX17_chooses (ws_ yX17_chooses cX17_chooses 6 (some .int)) 2 45 F_X17_chooses := Con_of (by decide +kernel) bs_X17_chooses_b0
/-- LongerHalf$Bone.isPulled()Z -/
abbrev M_X11_isPulled : MM := (yX11_isPulled, cX11_isPulled, (some .boolean), 0, 0, 1, [])
theorem pd_X11_isPulled : (yX11_isPulled.cls ≠ "java/lang/invoke/MethodHandle" ∧ yX11_isPulled.cls ≠ "java/lang/invoke/VarHandle") ∧ (parseMethodDescriptor yX11_isPulled.desc).map (fun d => d.parameters.length) = some 0 := ⟨⟨by decide +kernel, by decide +kernel⟩, by decide +kernel⟩
noncomputable def F_X11_isPulled_b0 : KK OO :=
  op_push (.int 1) <| op_iret .boolean
theorem bs_X11_isPulled_b0 : B_S M_X11_isPulled 0 (F_X11_isPulled_b0) z_O k_O := by
  unfold F_X11_isPulled_b0
  refine BS_iconst dX11_isPulled_0 (by decide) ?_
  exact BS_ireturn dX11_isPulled_1 rfl
noncomputable def F_X11_isPulled : FF := mk_F 1 F_X11_isPulled_b0
theorem con_X11_isPulled : Con_ yX11_isPulled (ws_ yX11_isPulled cX11_isPulled 1 (some .boolean)) 0 0 F_X11_isPulled := Con_of (by decide +kernel) bs_X11_isPulled_b0
/-- LongerHalf$Goose.isPulled()Z -/
abbrev M_X13_isPulled : MM := (yX13_isPulled, cX13_isPulled, (some .boolean), 0, 0, 1, [])
theorem pd_X13_isPulled : (yX13_isPulled.cls ≠ "java/lang/invoke/MethodHandle" ∧ yX13_isPulled.cls ≠ "java/lang/invoke/VarHandle") ∧ (parseMethodDescriptor yX13_isPulled.desc).map (fun d => d.parameters.length) = some 0 := ⟨⟨by decide +kernel, by decide +kernel⟩, by decide +kernel⟩
noncomputable def F_X13_isPulled_b0 : KK OO :=
  op_push (.int 0) <| op_iret .boolean
theorem bs_X13_isPulled_b0 : B_S M_X13_isPulled 0 (F_X13_isPulled_b0) z_O k_O := by
  unfold F_X13_isPulled_b0
  refine BS_iconst dX13_isPulled_0 (by decide) ?_
  exact BS_ireturn dX13_isPulled_1 rfl
noncomputable def F_X13_isPulled : FF := mk_F 1 F_X13_isPulled_b0
theorem con_X13_isPulled : Con_ yX13_isPulled (ws_ yX13_isPulled cX13_isPulled 1 (some .boolean)) 0 0 F_X13_isPulled := Con_of (by decide +kernel) bs_X13_isPulled_b0
