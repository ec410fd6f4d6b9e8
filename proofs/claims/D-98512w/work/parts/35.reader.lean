/-! printed by emit.py: the functions that the methods compute, and their contracts -/
set_option maxRecDepth 100000
theorem pu_Bo_add : (("LongerHalf$Bone" : String) ≠ "java/lang/invoke/MethodHandle" ∧ ("LongerHalf$Bone" : String) ≠ "java/lang/invoke/VarHandle") ∧ (parseMethodDescriptor "(II)V").map (fun d => d.parameters.length) = some 2 := ⟨⟨by decide +kernel, by decide +kernel⟩, by decide +kernel⟩
/-- LongerHalf.has(II)Z -/
abbrev M_X1_has : MM := (yX1_has, cX1_has, (some .boolean), 0, 0, 2, [])
theorem pd_X1_has : (yX1_has.cls ≠ "java/lang/invoke/MethodHandle" ∧ yX1_has.cls ≠ "java/lang/invoke/VarHandle") ∧ (parseMethodDescriptor yX1_has.desc).map (fun d => d.parameters.length) = some 2 := ⟨⟨by decide +kernel, by decide +kernel⟩, by decide +kernel⟩
noncomputable def F_X1_has_b0 : KK OO :=
  op_ild 0 <| op_ild 1 <| op_i2 (fun x y => x >>> (y &&& 31)) <| op_push (.int 1) <| op_i2 (fun x y => x &&& y) <| op_push (.int 1) <| op_cne (op_push (.int 0) <| op_iret .boolean) (op_push (.int 1) <| op_iret .boolean)
theorem bs_X1_has_b0 : B_S M_X1_has 0 (F_X1_has_b0) z_O k_O := by
  unfold F_X1_has_b0
  refine BS_iload_n dX1_has_0 rfl ?_
  refine BS_iload_n dX1_has_1 rfl ?_
  refine BS_ishr dX1_has_2 ?_
  refine BS_iconst dX1_has_3 (by decide) ?_
  refine BS_iand dX1_has_4 ?_
  refine BS_iconst dX1_has_5 (by decide) ?_
  refine BS_icmp_ne (tgt := 13) dX1_has_6 (by decide) ?_ ?_
  · refine BS_iconst dX1_has_13 (by decide) ?_
    exact BS_ireturn dX1_has_14 rfl
  · refine BS_iconst dX1_has_9 (by decide) ?_
    refine BS_goto (tgt := 14) dX1_has_10 (by decide) ?_
    exact BS_ireturn dX1_has_14 rfl
noncomputable def F_X1_has : FF := mk_F 2 F_X1_has_b0
theorem con_X1_has : Con_ yX1_has (ws_ yX1_has cX1_has 2 (some .boolean)) 0 0 F_X1_has := Con_of (by decide +kernel) bs_X1_has_b0
/-- LongerHalf$Reader.<init>([B)V -/
abbrev M_X2_init : MM := (yX2_init, cX2_init, none, 5, 144, 2, [])
theorem pd_X2_init : (yX2_init.cls ≠ "java/lang/invoke/MethodHandle" ∧ yX2_init.cls ≠ "java/lang/invoke/VarHandle") ∧ (parseMethodDescriptor yX2_init.desc).map (fun d => d.parameters.length) = some 1 := ⟨⟨by decide +kernel, by decide +kernel⟩, by decide +kernel⟩
noncomputable def F_X2_init_b0 : KK OO :=
  op_ald 0 <| op_oinit <| op_ald 0 <| op_new 2 8 <| op_dup <| op_call 1 (f_rcv F_X3_init) kx_no <| op_pfr [11] 21 <| op_ald 0 <| op_push (.int 8) <| op_newa 3 <| op_pfr [11] 23 <| op_ald 0 <| op_ald 1 <| op_pfr [11] 22 <| op_vret
theorem bs_X2_init_b0 : B_S M_X2_init 0 (F_X2_init_b0) z_O k_O := by
  unfold F_X2_init_b0
  refine BS_aload_n dX2_init_0 rfl ?_
  refine BS_oinit dX2_init_1 q181 q174 q175 (Nat.le_of_ble_eq_true rfl) (Nat.le_of_ble_eq_true rfl) ?_
  refine BS_aload_n dX2_init_4 rfl ?_
  refine BS_new dX2_init_5 (ci := 2) rfl rfl q182 q183 q141 ?_
  refine BS_dup dX2_init_8 ?_
  refine BS_call (run_I dX2_init_9 con_X3_init q222 q223 q141 q224 rfl pd_X3_init ⟨Nat.le_of_ble_eq_true rfl, Nat.le_of_ble_eq_true rfl⟩) BV_no ?_
  refine BS_pfr p_X2_12 rfl (fun _ => rfl) dX2_init_12 ?_
  refine BS_aload_n dX2_init_15 rfl ?_
  refine BS_bipush dX2_init_16 (by decide) ?_
  refine BS_newarray_c dX2_init_18 ?_
  refine BS_pfr p_X2_18 rfl (fun _ => rfl) dX2_init_20 ?_
  refine BS_aload_n dX2_init_23 rfl ?_
  refine BS_aload_n dX2_init_24 rfl ?_
  refine BS_pfr p_X2_22 rfl (fun _ => rfl) dX2_init_25 ?_
  exact BS_return dX2_init_28 rfl
noncomputable def F_X2_init : FF := mk_F 2 F_X2_init_b0
theorem con_X2_init : Con_ yX2_init (ws_ yX2_init cX2_init 2 none) 5 144 F_X2_init := Con_of (by decide +kernel) bs_X2_init_b0
/-- LongerHalf.<init>()V -/
abbrev M_X1_init : MM := (yX1_init, cX1_init, none, 6, 165, 2, [])
theorem pd_X1_init : (yX1_init.cls ≠ "java/lang/invoke/MethodHandle" ∧ yX1_init.cls ≠ "java/lang/invoke/VarHandle") ∧ (parseMethodDescriptor yX1_init.desc).map (fun d => d.parameters.length) = some 0 := ⟨⟨by decide +kernel, by decide +kernel⟩, by decide +kernel⟩
noncomputable def F_X1_init_l164 : KK (L_S ⊕ OO) :=
  op_ild 1 <| op_push (.int 3) <| op_cge (op_exit <| op_vret) (op_ald 0 <| op_gfr [10] 16 <| op_ild 1 <| op_new 3 5 <| op_dup <| op_call 1 (f_rcv F_X4_init) kx_no <| op_aast 7 [13] <| op_iinc 1 1 <| op_back)
theorem bs_X1_init_l164 : B_S M_X1_init 164 (F_X1_init_l164) (z_L z_O) (k_L 164 k_O) := by
  unfold F_X1_init_l164
  refine BS_iload_n dX1_init_164 rfl ?_
  refine BS_iconst dX1_init_165 (by decide) ?_
  refine BS_icmp_ge (tgt := 188) dX1_init_166 (by decide) ?_ ?_
  · refine BS_exit ?_
    exact BS_return dX1_init_188 rfl
  · refine BS_aload_n dX1_init_169 rfl ?_
    refine BS_gfr f_X1_70 dX1_init_170 ?_
    refine BS_iload_n dX1_init_173 rfl ?_
    refine BS_new dX1_init_174 (ci := 3) rfl rfl q288 q289 q142 ?_
    refine BS_dup dX1_init_177 ?_
    refine BS_call (run_IN dX1_init_178 con_X4_init q290 q291 q142 q292 rfl pd_X4_init ⟨Nat.le_of_ble_eq_true rfl, Nat.le_of_ble_eq_true rfl⟩) BV_no ?_
    refine BS_aastore dX1_init_181 (by decide) (by decide) (C := "LongerHalf$Drawer") rfl ao_7 ?_
    refine BS_iinc dX1_init_182 (by decide) (Nat.le_of_ble_eq_true rfl) ?_
    refine BS_goto (tgt := 164) dX1_init_185 (by decide) ?_
    exact BS_back
noncomputable def F_X1_init_b164 : KK OO := op_loop (F_X1_init_l164)
theorem bs_X1_init_b164 : B_S M_X1_init 164 (F_X1_init_b164) z_O k_O := BS_loop (bs_X1_init_l164)
noncomputable def F_X1_init_l137 : KK (L_S ⊕ OO) :=
  op_ild 1 <| op_push (.int 16) <| op_cge (op_exit <| op_push (.int 0) <| op_ist 1 <| F_X1_init_b164) (op_ald 0 <| op_gfr [10] 15 <| op_ild 1 <| op_new 3 5 <| op_dup <| op_call 1 (f_rcv F_X4_init) kx_no <| op_aast 7 [13] <| op_iinc 1 1 <| op_back)
theorem bs_X1_init_l137 : B_S M_X1_init 137 (F_X1_init_l137) (z_L z_O) (k_L 137 k_O) := by
  unfold F_X1_init_l137
  refine BS_iload_n dX1_init_137 rfl ?_
  refine BS_bipush dX1_init_138 (by decide) ?_
  refine BS_icmp_ge (tgt := 162) dX1_init_140 (by decide) ?_ ?_
  · refine BS_exit ?_
    refine BS_iconst dX1_init_162 (by decide) ?_
    refine BS_istore_n dX1_init_163 rfl (Nat.le_of_ble_eq_true rfl) ?_
    exact bs_X1_init_b164
  · refine BS_aload_n dX1_init_143 rfl ?_
    refine BS_gfr f_X1_66 dX1_init_144 ?_
    refine BS_iload_n dX1_init_147 rfl ?_
    refine BS_new dX1_init_148 (ci := 3) rfl rfl q288 q289 q142 ?_
    refine BS_dup dX1_init_151 ?_
    refine BS_call (run_IN dX1_init_152 con_X4_init q290 q291 q142 q292 rfl pd_X4_init ⟨Nat.le_of_ble_eq_true rfl, Nat.le_of_ble_eq_true rfl⟩) BV_no ?_
    refine BS_aastore dX1_init_155 (by decide) (by decide) (C := "LongerHalf$Drawer") rfl ao_7 ?_
    refine BS_iinc dX1_init_156 (by decide) (Nat.le_of_ble_eq_true rfl) ?_
    refine BS_goto (tgt := 137) dX1_init_159 (by decide) ?_
    exact BS_back
noncomputable def F_X1_init_b137 : KK OO := op_loop (F_X1_init_l137)
theorem bs_X1_init_b137 : B_S M_X1_init 137 (F_X1_init_b137) z_O k_O := BS_loop (bs_X1_init_l137)
noncomputable def F_X1_init_b96 : KK OO :=
  op_dup <| op_call 1 (f_rcv F_X7_init) kx_no <| op_pfr [10] 14 <| op_ald 0 <| op_push (.int 16) <| op_newa 7 <| op_pfr [10] 15 <| op_ald 0 <| op_push (.int 3) <| op_newa 7 <| op_pfr [10] 16 <| op_ald 0 <| op_push (.int 6) <| op_newa 1 <| op_pfr [10] 19 <| op_ald 0 <| op_push (.int 4) <| op_newa 1 <| op_pfr [10] 20 <| op_push (.int 0) <| op_ist 1 <| F_X1_init_b137
theorem bs_X1_init_b96 : B_S M_X1_init 96 (F_X1_init_b96) z_O k_O := by
  unfold F_X1_init_b96
  refine BS_dup dX1_init_96 ?_
  refine BS_call (run_IN dX1_init_97 con_X7_init q397 q398 q145 q399 rfl pd_X7_init ⟨Nat.le_of_ble_eq_true rfl, Nat.le_of_ble_eq_true rfl⟩) BV_no ?_
  refine BS_pfr p_X1_62 rfl (fun _ => rfl) dX1_init_100 ?_
  refine BS_aload_n dX1_init_103 rfl ?_
  refine BS_bipush dX1_init_104 (by decide) ?_
  refine BS_anewarray dX1_init_106 (by decide) (by decide) (C := "LongerHalf$Drawer") rfl (by decide) q288 ?_
  refine BS_pfr p_X1_66 rfl (fun _ => rfl) dX1_init_109 ?_
  refine BS_aload_n dX1_init_112 rfl ?_
  refine BS_iconst dX1_init_113 (by decide) ?_
  refine BS_anewarray dX1_init_114 (by decide) (by decide) (C := "LongerHalf$Drawer") rfl (by decide) q288 ?_
  refine BS_pfr p_X1_70 rfl (fun _ => rfl) dX1_init_117 ?_
  refine BS_aload_n dX1_init_120 rfl ?_
  refine BS_bipush dX1_init_121 (by decide) ?_
  refine BS_newarray_i dX1_init_123 ?_
  refine BS_pfr p_X1_73 rfl (fun _ => rfl) dX1_init_125 ?_
  refine BS_aload_n dX1_init_128 rfl ?_
  refine BS_iconst dX1_init_129 (by decide) ?_
  refine BS_newarray_i dX1_init_130 ?_
  refine BS_pfr p_X1_77 rfl (fun _ => rfl) dX1_init_132 ?_
  refine BS_iconst dX1_init_135 (by decide) ?_
  refine BS_istore_n dX1_init_136 rfl (Nat.le_of_ble_eq_true rfl) ?_
  exact bs_X1_init_b137
noncomputable def F_X1_init_b0 : KK OO :=
  op_ald 0 <| op_oinit <| op_ald 0 <| op_push (.int 1000) <| op_newa 2 <| op_pfr [10] 0 <| op_ald 0 <| op_new 1 10 <| op_dup <| op_ald 0 <| op_gfr [10] 0 <| op_call 2 (f_rcv F_X2_init) kx_no <| op_pfr [10] 2 <| op_ald 0 <| op_push (.int (-1)) <| op_pfi .int [10] 6 <| op_ald 0 <| op_new 3 5 <| op_dup <| op_call 1 (f_rcv F_X4_init) kx_no <| op_pfr [10] 9 <| op_ald 0 <| op_new 3 5 <| op_dup <| op_call 1 (f_rcv F_X4_init) kx_no <| op_pfr [10] 10 <| op_ald 0 <| op_new 3 5 <| op_dup <| op_call 1 (f_rcv F_X4_init) kx_no <| op_pfr [10] 11 <| op_ald 0 <| op_new 4 11 <| op_dup <| op_call 1 (f_rcv F_X5_init) kx_no <| op_pfr [10] 12 <| op_ald 0 <| op_new 5 8 <| op_dup <| op_ald 0 <| op_gfr [10] 12 <| op_call 2 (f_rcv F_X6_init) kx_no <| op_pfr [10] 13 <| op_ald 0 <| op_new 6 5 <| F_X1_init_b96
theorem bs_X1_init_b0 : B_S M_X1_init 0 (F_X1_init_b0) z_O k_O := by
  unfold F_X1_init_b0
  refine BS_aload_n dX1_init_0 rfl ?_
  refine BS_oinit dX1_init_1 q173 q174 q175 (Nat.le_of_ble_eq_true rfl) (Nat.le_of_ble_eq_true rfl) ?_
  refine BS_aload_n dX1_init_4 rfl ?_
  refine BS_sipush dX1_init_5 (by decide) ?_
  refine BS_newarray_b dX1_init_8 ?_
  refine BS_pfr p_X1_13 rfl (fun _ => rfl) dX1_init_10 ?_
  refine BS_aload_n dX1_init_13 rfl ?_
  refine BS_new dX1_init_14 (ci := 1) rfl rfl q176 q177 q137 ?_
  refine BS_dup dX1_init_17 ?_
  refine BS_aload_n dX1_init_18 rfl ?_
  refine BS_gfr f_X1_13 dX1_init_19 ?_
  refine BS_call (run_I dX1_init_22 con_X2_init q178 q179 q137 q180 rfl pd_X2_init ⟨Nat.le_of_ble_eq_true rfl, Nat.le_of_ble_eq_true rfl⟩) BV_no ?_
  refine BS_pfr p_X1_22 rfl (fun _ => rfl) dX1_init_25 ?_
  refine BS_aload_n dX1_init_28 rfl ?_
  refine BS_iconst dX1_init_29 (by decide) ?_
  refine BS_pfi p_X1_26 (fun h => by cases h) dX1_init_30 ?_
  refine BS_aload_n dX1_init_33 rfl ?_
  refine BS_new dX1_init_34 (ci := 3) rfl rfl q288 q289 q142 ?_
  refine BS_dup dX1_init_37 ?_
  refine BS_call (run_IN dX1_init_38 con_X4_init q290 q291 q142 q292 rfl pd_X4_init ⟨Nat.le_of_ble_eq_true rfl, Nat.le_of_ble_eq_true rfl⟩) BV_no ?_
  refine BS_pfr p_X1_33 rfl (fun _ => rfl) dX1_init_41 ?_
  refine BS_aload_n dX1_init_44 rfl ?_
  refine BS_new dX1_init_45 (ci := 3) rfl rfl q288 q289 q142 ?_
  refine BS_dup dX1_init_48 ?_
  refine BS_call (run_IN dX1_init_49 con_X4_init q290 q291 q142 q292 rfl pd_X4_init ⟨Nat.le_of_ble_eq_true rfl, Nat.le_of_ble_eq_true rfl⟩) BV_no ?_
  refine BS_pfr p_X1_37 rfl (fun _ => rfl) dX1_init_52 ?_
  refine BS_aload_n dX1_init_55 rfl ?_
  refine BS_new dX1_init_56 (ci := 3) rfl rfl q288 q289 q142 ?_
  refine BS_dup dX1_init_59 ?_
  refine BS_call (run_IN dX1_init_60 con_X4_init q290 q291 q142 q292 rfl pd_X4_init ⟨Nat.le_of_ble_eq_true rfl, Nat.le_of_ble_eq_true rfl⟩) BV_no ?_
  refine BS_pfr p_X1_40 rfl (fun _ => rfl) dX1_init_63 ?_
  refine BS_aload_n dX1_init_66 rfl ?_
  refine BS_new dX1_init_67 (ci := 4) rfl rfl q316 q317 q143 ?_
  refine BS_dup dX1_init_70 ?_
  refine BS_call (run_IN dX1_init_71 con_X5_init q318 q319 q143 q320 rfl pd_X5_init ⟨Nat.le_of_ble_eq_true rfl, Nat.le_of_ble_eq_true rfl⟩) BV_no ?_
  refine BS_pfr p_X1_46 rfl (fun _ => rfl) dX1_init_74 ?_
  refine BS_aload_n dX1_init_77 rfl ?_
  refine BS_new dX1_init_78 (ci := 5) rfl rfl q361 q362 q144 ?_
  refine BS_dup dX1_init_81 ?_
  refine BS_aload_n dX1_init_82 rfl ?_
  refine BS_gfr f_X1_46 dX1_init_83 ?_
  refine BS_call (run_I dX1_init_86 con_X6_init q363 q364 q144 q365 rfl pd_X6_init ⟨Nat.le_of_ble_eq_true rfl, Nat.le_of_ble_eq_true rfl⟩) BV_no ?_
  refine BS_pfr p_X1_55 rfl (fun _ => rfl) dX1_init_89 ?_
  refine BS_aload_n dX1_init_92 rfl ?_
  refine BS_new dX1_init_93 (ci := 6) rfl rfl q395 q396 q145 ?_
  exact bs_X1_init_b96
noncomputable def F_X1_init : FF := mk_F 2 F_X1_init_b0
theorem con_X1_init : Con_ yX1_init (ws_ yX1_init cX1_init 2 none) 6 165 F_X1_init := Con_of (by decide +kernel) bs_X1_init_b0
/-- LongerHalf.bytes(I)V -/
abbrev M_X1_bytes : MM := (yX1_bytes, cX1_bytes, none, 0, 0, 3, [])
theorem pd_X1_bytes : (yX1_bytes.cls ≠ "java/lang/invoke/MethodHandle" ∧ yX1_bytes.cls ≠ "java/lang/invoke/VarHandle") ∧ (parseMethodDescriptor yX1_bytes.desc).map (fun d => d.parameters.length) = some 1 := ⟨⟨by decide +kernel, by decide +kernel⟩, by decide +kernel⟩
noncomputable def F_X1_bytes_l3 : KK (L_S ⊕ OO) :=
  op_ild 2 <| op_ilt (op_exit <| op_vret) (op_ald 0 <| op_gfr [10] 0 <| op_ald 0 <| op_gfi [10] 1 <| op_ild 1 <| op_ild 2 <| op_i2 (fun x y => x >>> (y &&& 31)) <| op_i1 (fun x => x.toInt8.toInt32) <| op_iast 2 .byte <| op_ald 0 <| op_dup <| op_gfi [10] 1 <| op_push (.int 1) <| op_i2 (fun x y => x + y) <| op_pfi .int [10] 1 <| op_iinc 2 (-8) <| op_back)
theorem bs_X1_bytes_l3 : B_S M_X1_bytes 3 (F_X1_bytes_l3) (z_L z_O) (k_L 3 k_O) := by
  unfold F_X1_bytes_l3
  refine BS_iload_n dX1_bytes_3 rfl ?_
  refine BS_if_lt (tgt := 36) dX1_bytes_4 (by decide) ?_ ?_
  · refine BS_exit ?_
    exact BS_return dX1_bytes_36 rfl
  · refine BS_aload_n dX1_bytes_7 rfl ?_
    refine BS_gfr f_X1_13 dX1_bytes_8 ?_
    refine BS_aload_n dX1_bytes_11 rfl ?_
    refine BS_gfi f_X1_86 dX1_bytes_12 ?_
    refine BS_iload_n dX1_bytes_15 rfl ?_
    refine BS_iload_n dX1_bytes_16 rfl ?_
    refine BS_ishr dX1_bytes_17 ?_
    refine BS_i2b dX1_bytes_18 ?_
    refine BS_bastore dX1_bytes_19 ?_
    refine BS_aload_n dX1_bytes_20 rfl ?_
    refine BS_dup dX1_bytes_21 ?_
    refine BS_gfi f_X1_86 dX1_bytes_22 ?_
    refine BS_iconst dX1_bytes_25 (by decide) ?_
    refine BS_iadd dX1_bytes_26 ?_
    refine BS_pfi p_X1_86 (fun h => by cases h) dX1_bytes_27 ?_
    refine BS_iinc dX1_bytes_30 (by decide) (Nat.le_of_ble_eq_true rfl) ?_
    refine BS_goto (tgt := 3) dX1_bytes_33 (by decide) ?_
    exact BS_back
noncomputable def F_X1_bytes_b3 : KK OO := op_loop (F_X1_bytes_l3)
theorem bs_X1_bytes_b3 : B_S M_X1_bytes 3 (F_X1_bytes_b3) z_O k_O := BS_loop (bs_X1_bytes_l3)
noncomputable def F_X1_bytes_b0 : KK OO :=
  op_push (.int 24) <| op_ist 2 <| F_X1_bytes_b3
theorem bs_X1_bytes_b0 : B_S M_X1_bytes 0 (F_X1_bytes_b0) z_O k_O := by
  unfold F_X1_bytes_b0
  refine BS_bipush dX1_bytes_0 (by decide) ?_
  refine BS_istore_n dX1_bytes_2 rfl (Nat.le_of_ble_eq_true rfl) ?_
  exact bs_X1_bytes_b3
noncomputable def F_X1_bytes : FF := mk_F 3 F_X1_bytes_b0
theorem con_X1_bytes : Con_ yX1_bytes (ws_ yX1_bytes cX1_bytes 3 none) 0 0 F_X1_bytes := Con_of (by decide +kernel) bs_X1_bytes_b0
/-- LongerHalf.feed(IIIII)I -/
abbrev M_X1_feed : MM := (yX1_feed, cX1_feed, (some .int), 1, 22, 6, [])
theorem pd_X1_feed : (yX1_feed.cls ≠ "java/lang/invoke/MethodHandle" ∧ yX1_feed.cls ≠ "java/lang/invoke/VarHandle") ∧ (parseMethodDescriptor yX1_feed.desc).map (fun d => d.parameters.length) = some 5 := ⟨⟨by decide +kernel, by decide +kernel⟩, by decide +kernel⟩
noncomputable def F_X1_feed_b0 : KK OO :=
  op_ald 0 <| op_gfi [10] 1 <| op_push (.int 20) <| op_i2 (fun x y => x + y) <| op_push (.int 1000) <| op_cle (op_ald 0 <| op_ild 1 <| op_call 2 (f_kd 10 F_X1_bytes) kx_no <| op_ald 0 <| op_ild 2 <| op_call 2 (f_kd 10 F_X1_bytes) kx_no <| op_ald 0 <| op_ild 3 <| op_call 2 (f_kd 10 F_X1_bytes) kx_no <| op_ald 0 <| op_ild 4 <| op_call 2 (f_kd 10 F_X1_bytes) kx_no <| op_ald 0 <| op_ild 5 <| op_call 2 (f_kd 10 F_X1_bytes) kx_no <| op_ald 0 <| op_gfi [10] 1 <| op_iret .int) (op_push (.int (-1)) <| op_iret .int)
theorem bs_X1_feed_b0 : B_S M_X1_feed 0 (F_X1_feed_b0) z_O k_O := by
  unfold F_X1_feed_b0
  refine BS_aload_n dX1_feed_0 rfl ?_
  refine BS_gfi f_X1_86 dX1_feed_1 ?_
  refine BS_bipush dX1_feed_4 (by decide) ?_
  refine BS_iadd dX1_feed_6 ?_
  refine BS_sipush dX1_feed_7 (by decide) ?_
  refine BS_icmp_le (tgt := 15) dX1_feed_10 (by decide) ?_ ?_
  · refine BS_aload_n dX1_feed_15 rfl ?_
    refine BS_iload_n dX1_feed_16 rfl ?_
    refine BS_call (run_V dX1_feed_17 con_X1_bytes (ci := 0) rfl rfl q486 q488 qs1 q136 q489 pd_X1_bytes ⟨Nat.le_of_ble_eq_true rfl, Nat.le_of_ble_eq_true rfl⟩) BV_no ?_
    refine BS_aload_n dX1_feed_20 rfl ?_
    refine BS_iload_n dX1_feed_21 rfl ?_
    refine BS_call (run_V dX1_feed_22 con_X1_bytes (ci := 0) rfl rfl q486 q488 qs1 q136 q489 pd_X1_bytes ⟨Nat.le_of_ble_eq_true rfl, Nat.le_of_ble_eq_true rfl⟩) BV_no ?_
    refine BS_aload_n dX1_feed_25 rfl ?_
    refine BS_iload_n dX1_feed_26 rfl ?_
    refine BS_call (run_V dX1_feed_27 con_X1_bytes (ci := 0) rfl rfl q486 q488 qs1 q136 q489 pd_X1_bytes ⟨Nat.le_of_ble_eq_true rfl, Nat.le_of_ble_eq_true rfl⟩) BV_no ?_
    refine BS_aload_n dX1_feed_30 rfl ?_
    refine BS_iload dX1_feed_31 ?_
    refine BS_call (run_V dX1_feed_33 con_X1_bytes (ci := 0) rfl rfl q486 q488 qs1 q136 q489 pd_X1_bytes ⟨Nat.le_of_ble_eq_true rfl, Nat.le_of_ble_eq_true rfl⟩) BV_no ?_
    refine BS_aload_n dX1_feed_36 rfl ?_
    refine BS_iload dX1_feed_37 ?_
    refine BS_call (run_V dX1_feed_39 con_X1_bytes (ci := 0) rfl rfl q486 q488 qs1 q136 q489 pd_X1_bytes ⟨Nat.le_of_ble_eq_true rfl, Nat.le_of_ble_eq_true rfl⟩) BV_no ?_
    refine BS_aload_n dX1_feed_42 rfl ?_
    refine BS_gfi f_X1_86 dX1_feed_43 ?_
    exact BS_ireturn dX1_feed_46 rfl
  · refine BS_iconst dX1_feed_13 (by decide) ?_
    exact BS_ireturn dX1_feed_14 rfl
noncomputable def F_X1_feed : FF := mk_F 6 F_X1_feed_b0
theorem con_X1_feed : Con_ yX1_feed (ws_ yX1_feed cX1_feed 6 (some .int)) 1 22 F_X1_feed := Con_of (by decide +kernel) bs_X1_feed_b0
/-- LongerHalf.anew()V -/
abbrev M_X1_anew : MM := (yX1_anew, cX1_anew, none, 0, 0, 1, [])
theorem pd_X1_anew : (yX1_anew.cls ≠ "java/lang/invoke/MethodHandle" ∧ yX1_anew.cls ≠ "java/lang/invoke/VarHandle") ∧ (parseMethodDescriptor yX1_anew.desc).map (fun d => d.parameters.length) = some 0 := ⟨⟨by decide +kernel, by decide +kernel⟩, by decide +kernel⟩
noncomputable def F_X1_anew_b0 : KK OO :=
  op_ald 0 <| op_push (.int 0) <| op_pfi .int [10] 4 <| op_ald 0 <| op_push (.int (-1)) <| op_pfi .int [10] 6 <| op_vret
theorem bs_X1_anew_b0 : B_S M_X1_anew 0 (F_X1_anew_b0) z_O k_O := by
  unfold F_X1_anew_b0
  refine BS_aload_n dX1_anew_0 rfl ?_
  refine BS_iconst dX1_anew_1 (by decide) ?_
  refine BS_pfi p_X1_80 (fun h => by cases h) dX1_anew_2 ?_
  refine BS_aload_n dX1_anew_5 rfl ?_
  refine BS_iconst dX1_anew_6 (by decide) ?_
  refine BS_pfi p_X1_26 (fun h => by cases h) dX1_anew_7 ?_
  exact BS_return dX1_anew_10 rfl
noncomputable def F_X1_anew : FF := mk_F 1 F_X1_anew_b0
theorem con_X1_anew : Con_ yX1_anew (ws_ yX1_anew cX1_anew 1 none) 0 0 F_X1_anew := Con_of (by decide +kernel) bs_X1_anew_b0
/-- LongerHalf.in(III)Z -/
abbrev M_X1_in : MM := (yX1_in, cX1_in, (some .boolean), 0, 0, 3, [])
theorem pd_X1_in : (yX1_in.cls ≠ "java/lang/invoke/MethodHandle" ∧ yX1_in.cls ≠ "java/lang/invoke/VarHandle") ∧ (parseMethodDescriptor yX1_in.desc).map (fun d => d.parameters.length) = some 3 := ⟨⟨by decide +kernel, by decide +kernel⟩, by decide +kernel⟩
noncomputable def F_X1_in_b0 : KK OO :=
  op_ild 0 <| op_ild 1 <| op_clt (op_push (.int 0) <| op_iret .boolean) (op_ild 0 <| op_ild 2 <| op_cgt (op_push (.int 0) <| op_iret .boolean) (op_push (.int 1) <| op_iret .boolean))
theorem bs_X1_in_b0 : B_S M_X1_in 0 (F_X1_in_b0) z_O k_O := by
  unfold F_X1_in_b0
  refine BS_iload_n dX1_in_0 rfl ?_
  refine BS_iload_n dX1_in_1 rfl ?_
  refine BS_icmp_lt (tgt := 14) dX1_in_2 (by decide) ?_ ?_
  · refine BS_iconst dX1_in_14 (by decide) ?_
    exact BS_ireturn dX1_in_15 rfl
  · refine BS_iload_n dX1_in_5 rfl ?_
    refine BS_iload_n dX1_in_6 rfl ?_
    refine BS_icmp_gt (tgt := 14) dX1_in_7 (by decide) ?_ ?_
    · refine BS_iconst dX1_in_14 (by decide) ?_
      exact BS_ireturn dX1_in_15 rfl
    · refine BS_iconst dX1_in_10 (by decide) ?_
      refine BS_goto (tgt := 15) dX1_in_11 (by decide) ?_
      exact BS_ireturn dX1_in_15 rfl
noncomputable def F_X1_in : FF := mk_F 3 F_X1_in_b0
theorem con_X1_in : Con_ yX1_in (ws_ yX1_in cX1_in 3 (some .boolean)) 0 0 F_X1_in := Con_of (by decide +kernel) bs_X1_in_b0
/-- LongerHalf.no(I)I -/
abbrev M_X1_no : MM := (yX1_no, cX1_no, (some .int), 0, 0, 2, [])
theorem pd_X1_no : (yX1_no.cls ≠ "java/lang/invoke/MethodHandle" ∧ yX1_no.cls ≠ "java/lang/invoke/VarHandle") ∧ (parseMethodDescriptor yX1_no.desc).map (fun d => d.parameters.length) = some 1 := ⟨⟨by decide +kernel, by decide +kernel⟩, by decide +kernel⟩
noncomputable def F_X1_no_b0 : KK OO :=
  op_ald 0 <| op_ild 1 <| op_pfi .int [10] 4 <| op_push (.int (-1)) <| op_iret .int
theorem bs_X1_no_b0 : B_S M_X1_no 0 (F_X1_no_b0) z_O k_O := by
  unfold F_X1_no_b0
  refine BS_aload_n dX1_no_0 rfl ?_
  refine BS_iload_n dX1_no_1 rfl ?_
  refine BS_pfi p_X1_80 (fun h => by cases h) dX1_no_2 ?_
  refine BS_iconst dX1_no_5 (by decide) ?_
  exact BS_ireturn dX1_no_6 rfl
noncomputable def F_X1_no : FF := mk_F 2 F_X1_no_b0
theorem con_X1_no : Con_ yX1_no (ws_ yX1_no cX1_no 2 (some .int)) 0 0 F_X1_no := Con_of (by decide +kernel) bs_X1_no_b0
/-- LongerHalf$Reader.fail(I)LLongerHalf$Refused; -/
abbrev M_X2_fail : MM := (yX2_fail, cX2_fail, (some (.object "LongerHalf$Refused")), 1, 22, 2, [])
theorem pd_X2_fail : (yX2_fail.cls ≠ "java/lang/invoke/MethodHandle" ∧ yX2_fail.cls ≠ "java/lang/invoke/VarHandle") ∧ (parseMethodDescriptor yX2_fail.desc).map (fun d => d.parameters.length) = some 1 := ⟨⟨by decide +kernel, by decide +kernel⟩, by decide +kernel⟩
noncomputable def F_X2_fail_b0 : KK OO :=
  op_ald 0 <| op_gfr [11] 21 <| op_ild 1 <| op_ald 0 <| op_gfi [11] 27 <| op_call 3 (f_kd 12 F_X3_at) kx_no <| op_aret
theorem bs_X2_fail_b0 : B_S M_X2_fail 0 (F_X2_fail_b0) z_O k_O := by
  unfold F_X2_fail_b0
  refine BS_aload_n dX2_fail_0 rfl ?_
  refine BS_gfr f_X2_12 dX2_fail_1 ?_
  refine BS_iload_n dX2_fail_4 rfl ?_
  refine BS_aload_n dX2_fail_5 rfl ?_
  refine BS_gfi f_X2_26 dX2_fail_6 ?_
  refine BS_call (run_V dX2_fail_9 con_X3_at (ci := 2) rfl rfl q695 q696 q697 q141 q698 pd_X3_at ⟨Nat.le_of_ble_eq_true rfl, Nat.le_of_ble_eq_true rfl⟩) BV_no ?_
  exact BS_areturn dX2_fail_12 rfl (Or.inl ⟨_, rfl⟩)
noncomputable def F_X2_fail : FF := mk_F 2 F_X2_fail_b0
theorem con_X2_fail : Con_ yX2_fail (ws_ yX2_fail cX2_fail 2 (some (.object "LongerHalf$Refused"))) 1 22 F_X2_fail := Con_of (by decide +kernel) bs_X2_fail_b0
/-- LongerHalf$Reader.isDigit(I)Z -/
abbrev M_X2_isDigit : MM := (yX2_isDigit, cX2_isDigit, (some .boolean), 1, 22, 1, [])
theorem pd_X2_isDigit : (yX2_isDigit.cls ≠ "java/lang/invoke/MethodHandle" ∧ yX2_isDigit.cls ≠ "java/lang/invoke/VarHandle") ∧ (parseMethodDescriptor yX2_isDigit.desc).map (fun d => d.parameters.length) = some 1 := ⟨⟨by decide +kernel, by decide +kernel⟩, by decide +kernel⟩
noncomputable def F_X2_isDigit_b0 : KK OO :=
  op_ild 0 <| op_push (.int 48) <| op_push (.int 57) <| op_call 3 F_X1_in kx_no <| op_iret .boolean
theorem bs_X2_isDigit_b0 : B_S M_X2_isDigit 0 (F_X2_isDigit_b0) z_O k_O := by
  unfold F_X2_isDigit_b0
  refine BS_iload_n dX2_isDigit_0 rfl ?_
  refine BS_bipush dX2_isDigit_1 (by decide) ?_
  refine BS_bipush dX2_isDigit_3 (by decide) ?_
  refine BS_call (run_SN dX2_isDigit_5 con_X1_in q604 q500 q136 q501 pd_X1_in ⟨Nat.le_of_ble_eq_true rfl, Nat.le_of_ble_eq_true rfl⟩) BV_no ?_
  exact BS_ireturn dX2_isDigit_8 rfl
noncomputable def F_X2_isDigit : FF := mk_F 1 F_X2_isDigit_b0
theorem con_X2_isDigit : Con_ yX2_isDigit (ws_ yX2_isDigit cX2_isDigit 1 (some .boolean)) 1 22 F_X2_isDigit := Con_of (by decide +kernel) bs_X2_isDigit_b0
/-- LongerHalf$Reader.isSmall(I)Z -/
abbrev M_X2_isSmall : MM := (yX2_isSmall, cX2_isSmall, (some .boolean), 1, 22, 1, [])
theorem pd_X2_isSmall : (yX2_isSmall.cls ≠ "java/lang/invoke/MethodHandle" ∧ yX2_isSmall.cls ≠ "java/lang/invoke/VarHandle") ∧ (parseMethodDescriptor yX2_isSmall.desc).map (fun d => d.parameters.length) = some 1 := ⟨⟨by decide +kernel, by decide +kernel⟩, by decide +kernel⟩
noncomputable def F_X2_isSmall_b0 : KK OO :=
  op_ild 0 <| op_push (.int 97) <| op_push (.int 122) <| op_call 3 F_X1_in kx_no <| op_iret .boolean
theorem bs_X2_isSmall_b0 : B_S M_X2_isSmall 0 (F_X2_isSmall_b0) z_O k_O := by
  unfold F_X2_isSmall_b0
  refine BS_iload_n dX2_isSmall_0 rfl ?_
  refine BS_bipush dX2_isSmall_1 (by decide) ?_
  refine BS_bipush dX2_isSmall_3 (by decide) ?_
  refine BS_call (run_SN dX2_isSmall_5 con_X1_in q604 q500 q136 q501 pd_X1_in ⟨Nat.le_of_ble_eq_true rfl, Nat.le_of_ble_eq_true rfl⟩) BV_no ?_
  exact BS_ireturn dX2_isSmall_8 rfl
noncomputable def F_X2_isSmall : FF := mk_F 1 F_X2_isSmall_b0
theorem con_X2_isSmall : Con_ yX2_isSmall (ws_ yX2_isSmall cX2_isSmall 1 (some .boolean)) 1 22 F_X2_isSmall := Con_of (by decide +kernel) bs_X2_isSmall_b0
/-- LongerHalf$Reader.see(I)I -/
abbrev M_X2_see : MM := (yX2_see, cX2_see, (some .int), 0, 0, 2, [])
theorem pd_X2_see : (yX2_see.cls ≠ "java/lang/invoke/MethodHandle" ∧ yX2_see.cls ≠ "java/lang/invoke/VarHandle") ∧ (parseMethodDescriptor yX2_see.desc).map (fun d => d.parameters.length) = some 1 := ⟨⟨by decide +kernel, by decide +kernel⟩, by decide +kernel⟩
noncomputable def F_X2_see_b0 : KK OO :=
  op_ild 1 <| op_ald 0 <| op_gfi [11] 24 <| op_cge (op_push (.int (-1)) <| op_iret .int) (op_ald 0 <| op_gfr [11] 22 <| op_ild 1 <| op_iald 2 <| op_push (.int 255) <| op_i2 (fun x y => x &&& y) <| op_iret .int)
theorem bs_X2_see_b0 : B_S M_X2_see 0 (F_X2_see_b0) z_O k_O := by
  unfold F_X2_see_b0
  refine BS_iload_n dX2_see_0 rfl ?_
  refine BS_aload_n dX2_see_1 rfl ?_
  refine BS_gfi f_X2_33 dX2_see_2 ?_
  refine BS_icmp_ge (tgt := 21) dX2_see_5 (by decide) ?_ ?_
  · refine BS_iconst dX2_see_21 (by decide) ?_
    exact BS_ireturn dX2_see_22 rfl
  · refine BS_aload_n dX2_see_8 rfl ?_
    refine BS_gfr f_X2_22 dX2_see_9 ?_
    refine BS_iload_n dX2_see_12 rfl ?_
    refine BS_baload dX2_see_13 ?_
    refine BS_sipush dX2_see_14 (by decide) ?_
    refine BS_iand dX2_see_17 ?_
    refine BS_goto (tgt := 22) dX2_see_18 (by decide) ?_
    exact BS_ireturn dX2_see_22 rfl
noncomputable def F_X2_see : FF := mk_F 2 F_X2_see_b0
theorem con_X2_see : Con_ yX2_see (ws_ yX2_see cX2_see 2 (some .int)) 0 0 F_X2_see := Con_of (by decide +kernel) bs_X2_see_b0
/-- LongerHalf$Reader.next()V -/
abbrev M_X2_next : MM := (yX2_next, cX2_next, none, 4, 100, 3, [])
theorem pd_X2_next : (yX2_next.cls ≠ "java/lang/invoke/MethodHandle" ∧ yX2_next.cls ≠ "java/lang/invoke/VarHandle") ∧ (parseMethodDescriptor yX2_next.desc).map (fun d => d.parameters.length) = some 0 := ⟨⟨by decide +kernel, by decide +kernel⟩, by decide +kernel⟩
noncomputable def F_X2_next_b302 : KK OO :=
  op_pfi .int [11] 26 <| op_vret
theorem bs_X2_next_b302 : B_S M_X2_next 302 (F_X2_next_b302) z_O k_O := by
  unfold F_X2_next_b302
  refine BS_pfi p_X2_47 (fun h => by cases h) dX2_next_302 ?_
  exact BS_return dX2_next_305 rfl
noncomputable def F_X2_next_b297 : KK OO :=
  op_ild 2 <| F_X2_next_b302
theorem bs_X2_next_b297 : B_S M_X2_next 297 (F_X2_next_b297) z_O k_O := by
  unfold F_X2_next_b297
  refine BS_iload_n dX2_next_297 rfl ?_
  refine BS_goto (tgt := 302) dX2_next_298 (by decide) ?_
  exact bs_X2_next_b302
noncomputable def F_X2_next_b278 : KK OO :=
  op_pfi .int [11] 26 <| op_vret
theorem bs_X2_next_b278 : B_S M_X2_next 278 (F_X2_next_b278) z_O k_O := by
  unfold F_X2_next_b278
  refine BS_pfi p_X2_47 (fun h => by cases h) dX2_next_278 ?_
  refine BS_goto (tgt := 305) dX2_next_281 (by decide) ?_
  exact BS_return dX2_next_305 rfl
noncomputable def F_X2_next_b249 : KK (L_S ⊕ OO) :=
  op_ald 0 <| op_dup <| op_gfi [11] 25 <| op_push (.int 1) <| op_i2 (fun x y => x + y) <| op_pfi .int [11] 25 <| op_back
theorem bs_X2_next_b249 : B_S M_X2_next 249 (F_X2_next_b249) (z_L z_O) (k_L 202 k_O) := by
  unfold F_X2_next_b249
  refine BS_aload_n dX2_next_249 rfl ?_
  refine BS_dup dX2_next_250 ?_
  refine BS_gfi f_X2_40 dX2_next_251 ?_
  refine BS_iconst dX2_next_254 (by decide) ?_
  refine BS_iadd dX2_next_255 ?_
  refine BS_pfi p_X2_40 (fun h => by cases h) dX2_next_256 ?_
  refine BS_goto (tgt := 202) dX2_next_259 (by decide) ?_
  exact BS_back
noncomputable def F_X2_next_l202 : KK (L_S ⊕ OO) :=
  op_ald 0 <| op_ald 0 <| op_gfi [11] 25 <| op_call 2 (f_kd 11 F_X2_see) kx_no <| op_call 1 F_X2_isDigit kx_no <| op_ieq (op_exit <| op_ald 0 <| op_ald 0 <| op_gfi [11] 25 <| op_ild 1 <| op_i2 (fun x y => x - y) <| op_push (.int 2) <| op_cle (op_push (.int 3) <| F_X2_next_b278) (op_push (.int 1) <| F_X2_next_b278)) (op_ald 0 <| op_gfi [11] 25 <| op_ild 1 <| op_i2 (fun x y => x - y) <| op_push (.int 2) <| op_cge (F_X2_next_b249) (op_ald 0 <| op_push (.int 10) <| op_ald 0 <| op_gfi [11] 28 <| op_i2 (fun x y => x * y) <| op_ald 0 <| op_ald 0 <| op_gfi [11] 25 <| op_call 2 (f_kd 11 F_X2_see) kx_no <| op_i2 (fun x y => x + y) <| op_push (.int 48) <| op_i2 (fun x y => x - y) <| op_pfi .int [11] 28 <| F_X2_next_b249))
theorem bs_X2_next_l202 : B_S M_X2_next 202 (F_X2_next_l202) (z_L z_O) (k_L 202 k_O) := by
  unfold F_X2_next_l202
  refine BS_aload_n dX2_next_202 rfl ?_
  refine BS_aload_n dX2_next_203 rfl ?_
  refine BS_gfi f_X2_40 dX2_next_204 ?_
  refine BS_call (run_V dX2_next_207 con_X2_see (ci := 1) rfl rfl q597 q599 qs5 q137 q600 pd_X2_see ⟨Nat.le_of_ble_eq_true rfl, Nat.le_of_ble_eq_true rfl⟩) BV_no ?_
  refine BS_call (run_S dX2_next_210 con_X2_isDigit q684 q685 q137 q686 pd_X2_isDigit ⟨Nat.le_of_ble_eq_true rfl, Nat.le_of_ble_eq_true rfl⟩) BV_no ?_
  refine BS_if_eq (tgt := 262) dX2_next_213 (by decide) ?_ ?_
  · refine BS_exit ?_
    refine BS_aload_n dX2_next_262 rfl ?_
    refine BS_aload_n dX2_next_263 rfl ?_
    refine BS_gfi f_X2_40 dX2_next_264 ?_
    refine BS_iload_n dX2_next_267 rfl ?_
    refine BS_isub dX2_next_268 ?_
    refine BS_iconst dX2_next_269 (by decide) ?_
    refine BS_icmp_le (tgt := 277) dX2_next_270 (by decide) ?_ ?_
    · refine BS_iconst dX2_next_277 (by decide) ?_
      exact bs_X2_next_b278
    · refine BS_iconst dX2_next_273 (by decide) ?_
      refine BS_goto (tgt := 278) dX2_next_274 (by decide) ?_
      exact bs_X2_next_b278
  · refine BS_aload_n dX2_next_216 rfl ?_
    refine BS_gfi f_X2_40 dX2_next_217 ?_
    refine BS_iload_n dX2_next_220 rfl ?_
    refine BS_isub dX2_next_221 ?_
    refine BS_iconst dX2_next_222 (by decide) ?_
    refine BS_icmp_ge (tgt := 249) dX2_next_223 (by decide) ?_ ?_
    · exact bs_X2_next_b249
    · refine BS_aload_n dX2_next_226 rfl ?_
      refine BS_bipush dX2_next_227 (by decide) ?_
      refine BS_aload_n dX2_next_229 rfl ?_
      refine BS_gfi f_X2_68 dX2_next_230 ?_
      refine BS_imul dX2_next_233 ?_
      refine BS_aload_n dX2_next_234 rfl ?_
      refine BS_aload_n dX2_next_235 rfl ?_
      refine BS_gfi f_X2_40 dX2_next_236 ?_
      refine BS_call (run_V dX2_next_239 con_X2_see (ci := 1) rfl rfl q597 q599 qs5 q137 q600 pd_X2_see ⟨Nat.le_of_ble_eq_true rfl, Nat.le_of_ble_eq_true rfl⟩) BV_no ?_
      refine BS_iadd dX2_next_242 ?_
      refine BS_bipush dX2_next_243 (by decide) ?_
      refine BS_isub dX2_next_245 ?_
      refine BS_pfi p_X2_68 (fun h => by cases h) dX2_next_246 ?_
      exact bs_X2_next_b249
noncomputable def F_X2_next_b202 : KK OO := op_loop (F_X2_next_l202)
theorem bs_X2_next_b202 : B_S M_X2_next 202 (F_X2_next_b202) z_O k_O := BS_loop (bs_X2_next_l202)
noncomputable def F_X2_next_b179 : KK OO :=
  op_pfr [11] 29 <| op_vret
theorem bs_X2_next_b179 : B_S M_X2_next 179 (F_X2_next_b179) z_O k_O := by
  unfold F_X2_next_b179
  refine BS_pfr p_X2_61 rfl (fun h => by cases h) dX2_next_179 ?_
  refine BS_goto (tgt := 305) dX2_next_182 (by decide) ?_
  exact BS_return dX2_next_305 rfl
noncomputable def F_X2_next_b144 : KK OO :=
  op_pfi .int [11] 26 <| op_ald 0 <| op_ald 0 <| op_gfi [11] 26 <| op_push (.int 2) <| op_cne (op_ldcs 26 <| F_X2_next_b179) (op_new 17 4 <| op_dup <| op_ald 0 <| op_gfr [11] 23 <| op_push (.int 0) <| op_ald 0 <| op_gfi [11] 25 <| op_ild 1 <| op_i2 (fun x y => x - y) <| op_call 4 (f_rcv F_J3_init) kx_no <| F_X2_next_b179)
theorem bs_X2_next_b144 : B_S M_X2_next 144 (F_X2_next_b144) z_O k_O := by
  unfold F_X2_next_b144
  refine BS_pfi p_X2_47 (fun h => by cases h) dX2_next_144 ?_
  refine BS_aload_n dX2_next_147 rfl ?_
  refine BS_aload_n dX2_next_148 rfl ?_
  refine BS_gfi f_X2_47 dX2_next_149 ?_
  refine BS_iconst dX2_next_152 (by decide) ?_
  refine BS_icmp_ne (tgt := 177) dX2_next_153 (by decide) ?_ ?_
  · refine BS_ldcs dX2_next_177 st_X2_59 ?_
    exact bs_X2_next_b179
  · refine BS_new dX2_next_156 (ci := 17) rfl rfl q605 q606 q148 ?_
    refine BS_dup dX2_next_159 ?_
    refine BS_aload_n dX2_next_160 rfl ?_
    refine BS_gfr f_X2_18 dX2_next_161 ?_
    refine BS_iconst dX2_next_164 (by decide) ?_
    refine BS_aload_n dX2_next_165 rfl ?_
    refine BS_gfi f_X2_40 dX2_next_166 ?_
    refine BS_iload_n dX2_next_169 rfl ?_
    refine BS_isub dX2_next_170 ?_
    refine BS_call (run_I dX2_next_171 con_J3_init q607 q608 q148 q609 rfl pd_J3_init ⟨Nat.le_of_ble_eq_true rfl, Nat.le_of_ble_eq_true rfl⟩) BV_no ?_
    refine BS_goto (tgt := 179) dX2_next_174 (by decide) ?_
    exact bs_X2_next_b179
noncomputable def F_X2_next_b114 : KK (L_S ⊕ OO) :=
  op_ald 0 <| op_dup <| op_gfi [11] 25 <| op_push (.int 1) <| op_i2 (fun x y => x + y) <| op_pfi .int [11] 25 <| op_back
theorem bs_X2_next_b114 : B_S M_X2_next 114 (F_X2_next_b114) (z_L z_O) (k_L 69 k_O) := by
  unfold F_X2_next_b114
  refine BS_aload_n dX2_next_114 rfl ?_
  refine BS_dup dX2_next_115 ?_
  refine BS_gfi f_X2_40 dX2_next_116 ?_
  refine BS_iconst dX2_next_119 (by decide) ?_
  refine BS_iadd dX2_next_120 ?_
  refine BS_pfi p_X2_40 (fun h => by cases h) dX2_next_121 ?_
  refine BS_goto (tgt := 69) dX2_next_124 (by decide) ?_
  exact BS_back
noncomputable def F_X2_next_l69 : KK (L_S ⊕ OO) :=
  op_ald 0 <| op_ald 0 <| op_gfi [11] 25 <| op_call 2 (f_kd 11 F_X2_see) kx_no <| op_call 1 F_X2_isSmall kx_no <| op_ieq (op_exit <| op_ald 0 <| op_ald 0 <| op_gfi [11] 25 <| op_ild 1 <| op_i2 (fun x y => x - y) <| op_push (.int 8) <| op_cle (op_push (.int 2) <| F_X2_next_b144) (op_push (.int 1) <| F_X2_next_b144)) (op_ald 0 <| op_gfi [11] 25 <| op_ild 1 <| op_i2 (fun x y => x - y) <| op_push (.int 8) <| op_cge (F_X2_next_b114) (op_ald 0 <| op_gfr [11] 23 <| op_ald 0 <| op_gfi [11] 25 <| op_ild 1 <| op_i2 (fun x y => x - y) <| op_ald 0 <| op_ald 0 <| op_gfi [11] 25 <| op_call 2 (f_kd 11 F_X2_see) kx_no <| op_i1 (fun x => (x.toUInt32 % 65536).toInt32) <| op_iast 3 .char <| F_X2_next_b114))
theorem bs_X2_next_l69 : B_S M_X2_next 69 (F_X2_next_l69) (z_L z_O) (k_L 69 k_O) := by
  unfold F_X2_next_l69
  refine BS_aload_n dX2_next_69 rfl ?_
  refine BS_aload_n dX2_next_70 rfl ?_
  refine BS_gfi f_X2_40 dX2_next_71 ?_
  refine BS_call (run_V dX2_next_74 con_X2_see (ci := 1) rfl rfl q597 q599 qs5 q137 q600 pd_X2_see ⟨Nat.le_of_ble_eq_true rfl, Nat.le_of_ble_eq_true rfl⟩) BV_no ?_
  refine BS_call (run_S dX2_next_77 con_X2_isSmall q601 q602 q137 q603 pd_X2_isSmall ⟨Nat.le_of_ble_eq_true rfl, Nat.le_of_ble_eq_true rfl⟩) BV_no ?_
  refine BS_if_eq (tgt := 127) dX2_next_80 (by decide) ?_ ?_
  · refine BS_exit ?_
    refine BS_aload_n dX2_next_127 rfl ?_
    refine BS_aload_n dX2_next_128 rfl ?_
    refine BS_gfi f_X2_40 dX2_next_129 ?_
    refine BS_iload_n dX2_next_132 rfl ?_
    refine BS_isub dX2_next_133 ?_
    refine BS_bipush dX2_next_134 (by decide) ?_
    refine BS_icmp_le (tgt := 143) dX2_next_136 (by decide) ?_ ?_
    · refine BS_iconst dX2_next_143 (by decide) ?_
      exact bs_X2_next_b144
    · refine BS_iconst dX2_next_139 (by decide) ?_
      refine BS_goto (tgt := 144) dX2_next_140 (by decide) ?_
      exact bs_X2_next_b144
  · refine BS_aload_n dX2_next_83 rfl ?_
    refine BS_gfi f_X2_40 dX2_next_84 ?_
    refine BS_iload_n dX2_next_87 rfl ?_
    refine BS_isub dX2_next_88 ?_
    refine BS_bipush dX2_next_89 (by decide) ?_
    refine BS_icmp_ge (tgt := 114) dX2_next_91 (by decide) ?_ ?_
    · exact bs_X2_next_b114
    · refine BS_aload_n dX2_next_94 rfl ?_
      refine BS_gfr f_X2_18 dX2_next_95 ?_
      refine BS_aload_n dX2_next_98 rfl ?_
      refine BS_gfi f_X2_40 dX2_next_99 ?_
      refine BS_iload_n dX2_next_102 rfl ?_
      refine BS_isub dX2_next_103 ?_
      refine BS_aload_n dX2_next_104 rfl ?_
      refine BS_aload_n dX2_next_105 rfl ?_
      refine BS_gfi f_X2_40 dX2_next_106 ?_
      refine BS_call (run_V dX2_next_109 con_X2_see (ci := 1) rfl rfl q597 q599 qs5 q137 q600 pd_X2_see ⟨Nat.le_of_ble_eq_true rfl, Nat.le_of_ble_eq_true rfl⟩) BV_no ?_
      refine BS_i2c dX2_next_112 ?_
      refine BS_castore dX2_next_113 ?_
      exact bs_X2_next_b114
noncomputable def F_X2_next_b69 : KK OO := op_loop (F_X2_next_l69)
theorem bs_X2_next_b69 : B_S M_X2_next 69 (F_X2_next_b69) z_O k_O := BS_loop (bs_X2_next_l69)
noncomputable def F_X2_next_b46 : KK OO :=
  op_pfi .int [11] 26 <| op_ald 0 <| op_ild 1 <| op_pfi .int [11] 25 <| op_vret
theorem bs_X2_next_b46 : B_S M_X2_next 46 (F_X2_next_b46) z_O k_O := by
  unfold F_X2_next_b46
  refine BS_pfi p_X2_47 (fun h => by cases h) dX2_next_46 ?_
  refine BS_aload_n dX2_next_49 rfl ?_
  refine BS_iload_n dX2_next_50 rfl ?_
  refine BS_pfi p_X2_40 (fun h => by cases h) dX2_next_51 ?_
  refine BS_goto (tgt := 305) dX2_next_54 (by decide) ?_
  exact BS_return dX2_next_305 rfl
noncomputable def F_X2_next_l5 : KK (L_S ⊕ OO) :=
  op_ald 0 <| op_ild 1 <| op_call 2 (f_kd 11 F_X2_see) kx_no <| op_push (.int 32) <| op_cne (op_exit <| op_ald 0 <| op_ild 1 <| op_pfi .int [11] 27 <| op_ald 0 <| op_ild 1 <| op_push (.int 1) <| op_i2 (fun x y => x + y) <| op_pfi .int [11] 25 <| op_ald 0 <| op_ild 1 <| op_call 2 (f_kd 11 F_X2_see) kx_no <| op_ist 2 <| op_ild 2 <| op_push (.int (-1)) <| op_cne (op_ild 2 <| op_call 1 F_X2_isSmall kx_no <| op_ieq (op_ild 2 <| op_call 1 F_X2_isDigit kx_no <| op_ieq (op_ald 0 <| op_ild 2 <| op_push (.int 59) <| op_ceq (F_X2_next_b297) (op_ild 2 <| op_push (.int 44) <| op_cne (op_push (.int 1) <| F_X2_next_b302) (F_X2_next_b297))) (op_ald 0 <| op_push (.int 0) <| op_pfi .int [11] 28 <| op_ald 0 <| op_ild 1 <| op_pfi .int [11] 25 <| F_X2_next_b202)) (op_ald 0 <| op_ild 1 <| op_pfi .int [11] 25 <| F_X2_next_b69)) (op_ald 0 <| op_push (.int 0) <| F_X2_next_b46)) (op_iinc 1 1 <| op_back)
theorem bs_X2_next_l5 : B_S M_X2_next 5 (F_X2_next_l5) (z_L z_O) (k_L 5 k_O) := by
  unfold F_X2_next_l5
  refine BS_aload_n dX2_next_5 rfl ?_
  refine BS_iload_n dX2_next_6 rfl ?_
  refine BS_call (run_V dX2_next_7 con_X2_see (ci := 1) rfl rfl q597 q599 qs5 q137 q600 pd_X2_see ⟨Nat.le_of_ble_eq_true rfl, Nat.le_of_ble_eq_true rfl⟩) BV_no ?_
  refine BS_bipush dX2_next_10 (by decide) ?_
  refine BS_icmp_ne (tgt := 21) dX2_next_12 (by decide) ?_ ?_
  · refine BS_exit ?_
    refine BS_aload_n dX2_next_21 rfl ?_
    refine BS_iload_n dX2_next_22 rfl ?_
    refine BS_pfi p_X2_26 (fun h => by cases h) dX2_next_23 ?_
    refine BS_aload_n dX2_next_26 rfl ?_
    refine BS_iload_n dX2_next_27 rfl ?_
    refine BS_iconst dX2_next_28 (by decide) ?_
    refine BS_iadd dX2_next_29 ?_
    refine BS_pfi p_X2_40 (fun h => by cases h) dX2_next_30 ?_
    refine BS_aload_n dX2_next_33 rfl ?_
    refine BS_iload_n dX2_next_34 rfl ?_
    refine BS_call (run_V dX2_next_35 con_X2_see (ci := 1) rfl rfl q597 q599 qs5 q137 q600 pd_X2_see ⟨Nat.le_of_ble_eq_true rfl, Nat.le_of_ble_eq_true rfl⟩) BV_no ?_
    refine BS_istore_n dX2_next_38 rfl (Nat.le_of_ble_eq_true rfl) ?_
    refine BS_iload_n dX2_next_39 rfl ?_
    refine BS_iconst dX2_next_40 (by decide) ?_
    refine BS_icmp_ne (tgt := 57) dX2_next_41 (by decide) ?_ ?_
    · refine BS_iload_n dX2_next_57 rfl ?_
      refine BS_call (run_S dX2_next_58 con_X2_isSmall q601 q602 q137 q603 pd_X2_isSmall ⟨Nat.le_of_ble_eq_true rfl, Nat.le_of_ble_eq_true rfl⟩) BV_no ?_
      refine BS_if_eq (tgt := 185) dX2_next_61 (by decide) ?_ ?_
      · refine BS_iload_n dX2_next_185 rfl ?_
        refine BS_call (run_S dX2_next_186 con_X2_isDigit q684 q685 q137 q686 pd_X2_isDigit ⟨Nat.le_of_ble_eq_true rfl, Nat.le_of_ble_eq_true rfl⟩) BV_no ?_
        refine BS_if_eq (tgt := 284) dX2_next_189 (by decide) ?_ ?_
        · refine BS_aload_n dX2_next_284 rfl ?_
          refine BS_iload_n dX2_next_285 rfl ?_
          refine BS_bipush dX2_next_286 (by decide) ?_
          refine BS_icmp_eq (tgt := 297) dX2_next_288 (by decide) ?_ ?_
          · exact bs_X2_next_b297
          · refine BS_iload_n dX2_next_291 rfl ?_
            refine BS_bipush dX2_next_292 (by decide) ?_
            refine BS_icmp_ne (tgt := 301) dX2_next_294 (by decide) ?_ ?_
            · refine BS_iconst dX2_next_301 (by decide) ?_
              exact bs_X2_next_b302
            · exact bs_X2_next_b297
        · refine BS_aload_n dX2_next_192 rfl ?_
          refine BS_iconst dX2_next_193 (by decide) ?_
          refine BS_pfi p_X2_68 (fun h => by cases h) dX2_next_194 ?_
          refine BS_aload_n dX2_next_197 rfl ?_
          refine BS_iload_n dX2_next_198 rfl ?_
          refine BS_pfi p_X2_40 (fun h => by cases h) dX2_next_199 ?_
          exact bs_X2_next_b202
      · refine BS_aload_n dX2_next_64 rfl ?_
        refine BS_iload_n dX2_next_65 rfl ?_
        refine BS_pfi p_X2_40 (fun h => by cases h) dX2_next_66 ?_
        exact bs_X2_next_b69
    · refine BS_aload_n dX2_next_44 rfl ?_
      refine BS_iconst dX2_next_45 (by decide) ?_
      exact bs_X2_next_b46
  · refine BS_iinc dX2_next_15 (by decide) (Nat.le_of_ble_eq_true rfl) ?_
    refine BS_goto (tgt := 5) dX2_next_18 (by decide) ?_
    exact BS_back
noncomputable def F_X2_next_b5 : KK OO := op_loop (F_X2_next_l5)
theorem bs_X2_next_b5 : B_S M_X2_next 5 (F_X2_next_b5) z_O k_O := BS_loop (bs_X2_next_l5)
noncomputable def F_X2_next_b0 : KK OO :=
  op_ald 0 <| op_gfi [11] 25 <| op_ist 1 <| F_X2_next_b5
theorem bs_X2_next_b0 : B_S M_X2_next 0 (F_X2_next_b0) z_O k_O := by
  unfold F_X2_next_b0
  refine BS_aload_n dX2_next_0 rfl ?_
  refine BS_gfi f_X2_40 dX2_next_1 ?_
  refine BS_istore_n dX2_next_4 rfl (Nat.le_of_ble_eq_true rfl) ?_
  exact bs_X2_next_b5
noncomputable def F_X2_next : FF := mk_F 3 F_X2_next_b0
theorem con_X2_next : Con_ yX2_next (ws_ yX2_next cX2_next 3 none) 4 100 F_X2_next := Con_of (by decide +kernel) bs_X2_next_b0
/-- LongerHalf$Reader.takes(Ljava/lang/String;)Z -/
abbrev M_X2_takes : MM := (yX2_takes, cX2_takes, (some .boolean), 5, 122, 2, [])
theorem pd_X2_takes : (yX2_takes.cls ≠ "java/lang/invoke/MethodHandle" ∧ yX2_takes.cls ≠ "java/lang/invoke/VarHandle") ∧ (parseMethodDescriptor yX2_takes.desc).map (fun d => d.parameters.length) = some 1 := ⟨⟨by decide +kernel, by decide +kernel⟩, by decide +kernel⟩
noncomputable def F_X2_takes_b0 : KK OO :=
  op_ald 0 <| op_gfi [11] 26 <| op_push (.int 2) <| op_cne (op_push (.int 0) <| op_iret .boolean) (op_ald 0 <| op_gfr [11] 29 <| op_ald 1 <| op_call 2 (f_kd 27 F_J3_equals) kx_no <| op_ine (op_ald 0 <| op_call 1 (f_kd 11 F_X2_next) kx_no <| op_push (.int 1) <| op_iret .boolean) (op_push (.int 0) <| op_iret .boolean))
theorem bs_X2_takes_b0 : B_S M_X2_takes 0 (F_X2_takes_b0) z_O k_O := by
  unfold F_X2_takes_b0
  refine BS_aload_n dX2_takes_0 rfl ?_
  refine BS_gfi f_X2_47 dX2_takes_1 ?_
  refine BS_iconst dX2_takes_4 (by decide) ?_
  refine BS_icmp_ne (tgt := 19) dX2_takes_5 (by decide) ?_ ?_
  · refine BS_iconst dX2_takes_19 (by decide) ?_
    exact BS_ireturn dX2_takes_20 rfl
  · refine BS_aload_n dX2_takes_8 rfl ?_
    refine BS_gfr f_X2_61 dX2_takes_9 ?_
    refine BS_aload_n dX2_takes_12 rfl ?_
    refine BS_call (run_V dX2_takes_13 con_J3_equals (ci := 17) rfl rfl q753 q754 q755 q148 q756 pd_J3_equals ⟨Nat.le_of_ble_eq_true rfl, Nat.le_of_ble_eq_true rfl⟩) BV_no ?_
    refine BS_if_ne (tgt := 21) dX2_takes_16 (by decide) ?_ ?_
    · refine BS_aload_n dX2_takes_21 rfl ?_
      refine BS_call (run_V dX2_takes_22 con_X2_next (ci := 1) rfl rfl q593 q595 qs4 q137 q596 pd_X2_next ⟨Nat.le_of_ble_eq_true rfl, Nat.le_of_ble_eq_true rfl⟩) BV_no ?_
      refine BS_iconst dX2_takes_25 (by decide) ?_
      exact BS_ireturn dX2_takes_26 rfl
    · refine BS_iconst dX2_takes_19 (by decide) ?_
      exact BS_ireturn dX2_takes_20 rfl
noncomputable def F_X2_takes : FF := mk_F 2 F_X2_takes_b0
theorem con_X2_takes : Con_ yX2_takes (ws_ yX2_takes cX2_takes 2 (some .boolean)) 5 122 F_X2_takes := Con_of (by decide +kernel) bs_X2_takes_b0
/-- LongerHalf$Reader.must(Ljava/lang/String;)V -/
abbrev M_X2_must : MM := (yX2_must, cX2_must, none, 6, 143, 2, [])
theorem pd_X2_must : (yX2_must.cls ≠ "java/lang/invoke/MethodHandle" ∧ yX2_must.cls ≠ "java/lang/invoke/VarHandle") ∧ (parseMethodDescriptor yX2_must.desc).map (fun d => d.parameters.length) = some 1 := ⟨⟨by decide +kernel, by decide +kernel⟩, by decide +kernel⟩
noncomputable def F_X2_must_b0 : KK OO :=
  op_ald 0 <| op_ald 1 <| op_call 2 (f_kd 11 F_X2_takes) kx_no <| op_ine (op_vret) (op_ald 0 <| op_push (.int 1) <| op_call 2 (f_kd 11 F_X2_fail) kx_no <| op_throw kx_out)
theorem bs_X2_must_b0 : B_S M_X2_must 0 (F_X2_must_b0) z_O k_O := by
  unfold F_X2_must_b0
  refine BS_aload_n dX2_must_0 rfl ?_
  refine BS_aload_n dX2_must_1 rfl ?_
  refine BS_call (run_V dX2_must_2 con_X2_takes (ci := 1) rfl rfl q780 q782 qs11 q137 q783 pd_X2_takes ⟨Nat.le_of_ble_eq_true rfl, Nat.le_of_ble_eq_true rfl⟩) BV_no ?_
  refine BS_if_ne (tgt := 14) dX2_must_5 (by decide) ?_ ?_
  · exact BS_return dX2_must_14 rfl
  · refine BS_aload_n dX2_must_8 rfl ?_
    refine BS_iconst dX2_must_9 (by decide) ?_
    refine BS_call (run_V dX2_must_10 con_X2_fail (ci := 1) rfl rfl q691 q693 qs7 q137 q694 pd_X2_fail ⟨Nat.le_of_ble_eq_true rfl, Nat.le_of_ble_eq_true rfl⟩) BV_no ?_
    exact BS_throw dX2_must_13 (BV_out (fun _ h => absurd h List.not_mem_nil))
noncomputable def F_X2_must : FF := mk_F 2 F_X2_must_b0
theorem con_X2_must : Con_ yX2_must (ws_ yX2_must cX2_must 2 none) 6 143 F_X2_must := Con_of (by decide +kernel) bs_X2_must_b0
/-- LongerHalf$Reader.number(II)I -/
abbrev M_X2_number : MM := (yX2_number, cX2_number, (some .int), 5, 122, 4, [])
theorem pd_X2_number : (yX2_number.cls ≠ "java/lang/invoke/MethodHandle" ∧ yX2_number.cls ≠ "java/lang/invoke/VarHandle") ∧ (parseMethodDescriptor yX2_number.desc).map (fun d => d.parameters.length) = some 2 := ⟨⟨by decide +kernel, by decide +kernel⟩, by decide +kernel⟩
noncomputable def F_X2_number_b0 : KK OO :=
  op_ald 0 <| op_gfi [11] 26 <| op_push (.int 3) <| op_ceq (op_ald 0 <| op_gfi [11] 28 <| op_ild 1 <| op_ild 2 <| op_call 3 F_X1_in kx_no <| op_ine (op_ald 0 <| op_gfi [11] 28 <| op_ist 3 <| op_ald 0 <| op_call 1 (f_kd 11 F_X2_next) kx_no <| op_ild 3 <| op_iret .int) (op_ald 0 <| op_push (.int 4) <| op_call 2 (f_kd 11 F_X2_fail) kx_no <| op_throw kx_out)) (op_ald 0 <| op_push (.int 1) <| op_call 2 (f_kd 11 F_X2_fail) kx_no <| op_throw kx_out)
theorem bs_X2_number_b0 : B_S M_X2_number 0 (F_X2_number_b0) z_O k_O := by
  unfold F_X2_number_b0
  refine BS_aload_n dX2_number_0 rfl ?_
  refine BS_gfi f_X2_47 dX2_number_1 ?_
  refine BS_iconst dX2_number_4 (by decide) ?_
  refine BS_icmp_eq (tgt := 14) dX2_number_5 (by decide) ?_ ?_
  · refine BS_aload_n dX2_number_14 rfl ?_
    refine BS_gfi f_X2_68 dX2_number_15 ?_
    refine BS_iload_n dX2_number_18 rfl ?_
    refine BS_iload_n dX2_number_19 rfl ?_
    refine BS_call (run_SN dX2_number_20 con_X1_in q604 q500 q136 q501 pd_X1_in ⟨Nat.le_of_ble_eq_true rfl, Nat.le_of_ble_eq_true rfl⟩) BV_no ?_
    refine BS_if_ne (tgt := 32) dX2_number_23 (by decide) ?_ ?_
    · refine BS_aload_n dX2_number_32 rfl ?_
      refine BS_gfi f_X2_68 dX2_number_33 ?_
      refine BS_istore_n dX2_number_36 rfl (Nat.le_of_ble_eq_true rfl) ?_
      refine BS_aload_n dX2_number_37 rfl ?_
      refine BS_call (run_V dX2_number_38 con_X2_next (ci := 1) rfl rfl q593 q595 qs4 q137 q596 pd_X2_next ⟨Nat.le_of_ble_eq_true rfl, Nat.le_of_ble_eq_true rfl⟩) BV_no ?_
      refine BS_iload_n dX2_number_41 rfl ?_
      exact BS_ireturn dX2_number_42 rfl
    · refine BS_aload_n dX2_number_26 rfl ?_
      refine BS_iconst dX2_number_27 (by decide) ?_
      refine BS_call (run_V dX2_number_28 con_X2_fail (ci := 1) rfl rfl q691 q693 qs7 q137 q694 pd_X2_fail ⟨Nat.le_of_ble_eq_true rfl, Nat.le_of_ble_eq_true rfl⟩) BV_no ?_
      exact BS_throw dX2_number_31 (BV_out (fun _ h => absurd h List.not_mem_nil))
  · refine BS_aload_n dX2_number_8 rfl ?_
    refine BS_iconst dX2_number_9 (by decide) ?_
    refine BS_call (run_V dX2_number_10 con_X2_fail (ci := 1) rfl rfl q691 q693 qs7 q137 q694 pd_X2_fail ⟨Nat.le_of_ble_eq_true rfl, Nat.le_of_ble_eq_true rfl⟩) BV_no ?_
    exact BS_throw dX2_number_13 (BV_out (fun _ h => absurd h List.not_mem_nil))
noncomputable def F_X2_number : FF := mk_F 4 F_X2_number_b0
theorem con_X2_number : Con_ yX2_number (ws_ yX2_number cX2_number 4 (some .int)) 5 122 F_X2_number := Con_of (by decide +kernel) bs_X2_number_b0
/-- LongerHalf$Reader.after(Ljava/lang/String;II)I -/
abbrev M_X2_after : MM := (yX2_after, cX2_after, (some .int), 7, 164, 4, [])
theorem pd_X2_after : (yX2_after.cls ≠ "java/lang/invoke/MethodHandle" ∧ yX2_after.cls ≠ "java/lang/invoke/VarHandle") ∧ (parseMethodDescriptor yX2_after.desc).map (fun d => d.parameters.length) = some 3 := ⟨⟨by decide +kernel, by decide +kernel⟩, by decide +kernel⟩
noncomputable def F_X2_after_b0 : KK OO :=
  op_ald 0 <| op_ald 1 <| op_call 2 (f_kd 11 F_X2_must) kx_out <| op_ald 0 <| op_ild 2 <| op_ild 3 <| op_call 3 (f_kd 11 F_X2_number) kx_out <| op_iret .int
theorem bs_X2_after_b0 : B_S M_X2_after 0 (F_X2_after_b0) z_O k_O := by
  unfold F_X2_after_b0
  refine BS_aload_n dX2_after_0 rfl ?_
  refine BS_aload_n dX2_after_1 rfl ?_
  refine BS_call (run_V dX2_after_2 con_X2_must (ci := 1) rfl rfl q776 q778 qs10 q137 q779 pd_X2_must ⟨Nat.le_of_ble_eq_true rfl, Nat.le_of_ble_eq_true rfl⟩) (BV_out (fun _ h => absurd h List.not_mem_nil)) ?_
  refine BS_aload_n dX2_after_5 rfl ?_
  refine BS_iload_n dX2_after_6 rfl ?_
  refine BS_iload_n dX2_after_7 rfl ?_
  refine BS_call (run_V dX2_after_8 con_X2_number (ci := 1) rfl rfl q784 q786 qs12 q137 q787 pd_X2_number ⟨Nat.le_of_ble_eq_true rfl, Nat.le_of_ble_eq_true rfl⟩) (BV_out (fun _ h => absurd h List.not_mem_nil)) ?_
  exact BS_ireturn dX2_after_11 rfl
noncomputable def F_X2_after : FF := mk_F 4 F_X2_after_b0
theorem con_X2_after : Con_ yX2_after (ws_ yX2_after cX2_after 4 (some .int)) 7 164 F_X2_after := Con_of (by decide +kernel) bs_X2_after_b0
/-- LongerHalf$Reader.comma()Z -/
abbrev M_X2_comma : MM := (yX2_comma, cX2_comma, (some .boolean), 5, 122, 1, [])
theorem pd_X2_comma : (yX2_comma.cls ≠ "java/lang/invoke/MethodHandle" ∧ yX2_comma.cls ≠ "java/lang/invoke/VarHandle") ∧ (parseMethodDescriptor yX2_comma.desc).map (fun d => d.parameters.length) = some 0 := ⟨⟨by decide +kernel, by decide +kernel⟩, by decide +kernel⟩
noncomputable def F_X2_comma_b0 : KK OO :=
  op_ald 0 <| op_gfi [11] 26 <| op_push (.int 44) <| op_ceq (op_ald 0 <| op_call 1 (f_kd 11 F_X2_next) kx_no <| op_push (.int 1) <| op_iret .boolean) (op_push (.int 0) <| op_iret .boolean)
theorem bs_X2_comma_b0 : B_S M_X2_comma 0 (F_X2_comma_b0) z_O k_O := by
  unfold F_X2_comma_b0
  refine BS_aload_n dX2_comma_0 rfl ?_
  refine BS_gfi f_X2_47 dX2_comma_1 ?_
  refine BS_bipush dX2_comma_4 (by decide) ?_
  refine BS_icmp_eq (tgt := 11) dX2_comma_6 (by decide) ?_ ?_
  · refine BS_aload_n dX2_comma_11 rfl ?_
    refine BS_call (run_V dX2_comma_12 con_X2_next (ci := 1) rfl rfl q593 q595 qs4 q137 q596 pd_X2_next ⟨Nat.le_of_ble_eq_true rfl, Nat.le_of_ble_eq_true rfl⟩) BV_no ?_
    refine BS_iconst dX2_comma_15 (by decide) ?_
    exact BS_ireturn dX2_comma_16 rfl
  · refine BS_iconst dX2_comma_9 (by decide) ?_
    exact BS_ireturn dX2_comma_10 rfl
noncomputable def F_X2_comma : FF := mk_F 1 F_X2_comma_b0
theorem con_X2_comma : Con_ yX2_comma (ws_ yX2_comma cX2_comma 1 (some .boolean)) 5 122 F_X2_comma := Con_of (by decide +kernel) bs_X2_comma_b0
/-- LongerHalf$Reader.arm(LLongerHalf$Bone;ILjava/lang/String;)V -/
abbrev M_X2_arm : MM := (yX2_arm, cX2_arm, none, 7, 164, 6, [])
theorem pd_X2_arm : (yX2_arm.cls ≠ "java/lang/invoke/MethodHandle" ∧ yX2_arm.cls ≠ "java/lang/invoke/VarHandle") ∧ (parseMethodDescriptor yX2_arm.desc).map (fun d => d.parameters.length) = some 3 := ⟨⟨by decide +kernel, by decide +kernel⟩, by decide +kernel⟩
noncomputable def F_X2_arm_b161 : KK OO :=
  op_call 2 (f_kd 11 F_X2_fail) kx_no <| op_throw kx_out
theorem bs_X2_arm_b161 : B_S M_X2_arm 161 (F_X2_arm_b161) z_O k_O := by
  unfold F_X2_arm_b161
  refine BS_call (run_V dX2_arm_161 con_X2_fail (ci := 1) rfl rfl q691 q693 qs7 q137 q694 pd_X2_fail ⟨Nat.le_of_ble_eq_true rfl, Nat.le_of_ble_eq_true rfl⟩) BV_no ?_
  exact BS_throw dX2_arm_164 (BV_out (fun _ h => absurd h List.not_mem_nil))
noncomputable def F_X2_arm_b147 : KK OO :=
  op_ist 5 <| op_ald 0 <| op_ild 5 <| op_ieq (op_push (.int 1) <| F_X2_arm_b161) (op_push (.int 6) <| F_X2_arm_b161)
theorem bs_X2_arm_b147 : B_S M_X2_arm 147 (F_X2_arm_b147) z_O k_O := by
  unfold F_X2_arm_b147
  refine BS_istore dX2_arm_147 (Nat.le_of_ble_eq_true rfl) ?_
  refine BS_aload_n dX2_arm_149 rfl ?_
  refine BS_iload dX2_arm_150 ?_
  refine BS_if_eq (tgt := 160) dX2_arm_152 (by decide) ?_ ?_
  · refine BS_iconst dX2_arm_160 (by decide) ?_
    exact bs_X2_arm_b161
  · refine BS_bipush dX2_arm_155 (by decide) ?_
    refine BS_goto (tgt := 161) dX2_arm_157 (by decide) ?_
    exact bs_X2_arm_b161
noncomputable def F_X2_arm_b142 : KK OO :=
  op_push (.int 1) <| F_X2_arm_b147
theorem bs_X2_arm_b142 : B_S M_X2_arm 142 (F_X2_arm_b142) z_O k_O := by
  unfold F_X2_arm_b142
  refine BS_iconst dX2_arm_142 (by decide) ?_
  refine BS_goto (tgt := 147) dX2_arm_143 (by decide) ?_
  exact bs_X2_arm_b147
noncomputable def F_X2_arm_b122 : KK OO :=
  op_push (.int 0) <| F_X2_arm_b147
theorem bs_X2_arm_b122 : B_S M_X2_arm 122 (F_X2_arm_b122) z_O k_O := by
  unfold F_X2_arm_b122
  refine BS_iconst dX2_arm_122 (by decide) ?_
  refine BS_goto (tgt := 147) dX2_arm_123 (by decide) ?_
  exact bs_X2_arm_b147
noncomputable def F_X2_arm_b63 : KK (L_S ⊕ OO) :=
  op_ild 2 <| op_ald 0 <| op_gfi [11] 28 <| op_call 3 (f_or (f_kd 18 F_X11_add) (f_or (f_kd 19 F_X11_add) (f_kd 20 F_X11_add))) kx_no <| op_ald 0 <| op_call 1 (f_kd 11 F_X2_next) kx_no <| op_ald 0 <| op_call 1 (f_kd 11 F_X2_comma) kx_no <| op_ist 4 <| op_back
theorem bs_X2_arm_b63 : B_S M_X2_arm 63 (F_X2_arm_b63) (z_L z_O) (k_L 8 k_O) := by
  unfold F_X2_arm_b63
  refine BS_iload_n dX2_arm_63 rfl ?_
  refine BS_aload_n dX2_arm_64 rfl ?_
  refine BS_gfi f_X2_68 dX2_arm_65 ?_
  refine BS_call ((run_or (run_U dX2_arm_68 con_X11_add (ci := 8) rfl q893 q895 q898 q894 q154 q899 (Or.inl ⟨_, _, _, q894, q899⟩) pu_Bo_add ⟨Nat.le_of_ble_eq_true rfl, Nat.le_of_ble_eq_true rfl⟩) (run_or (run_U dX2_arm_68 con_X11_add (ci := 9) rfl q893 q895 q897 q894 q154 q899 (Or.inl ⟨_, _, _, q894, q899⟩) pu_Bo_add ⟨Nat.le_of_ble_eq_true rfl, Nat.le_of_ble_eq_true rfl⟩) (run_U dX2_arm_68 con_X11_add (ci := 10) rfl q893 q895 q896 q894 q154 q899 (Or.inl ⟨_, _, _, q894, q899⟩) pu_Bo_add ⟨Nat.le_of_ble_eq_true rfl, Nat.le_of_ble_eq_true rfl⟩)))) BV_no ?_
  refine BS_aload_n dX2_arm_71 rfl ?_
  refine BS_call (run_V dX2_arm_72 con_X2_next (ci := 1) rfl rfl q593 q595 qs4 q137 q596 pd_X2_next ⟨Nat.le_of_ble_eq_true rfl, Nat.le_of_ble_eq_true rfl⟩) BV_no ?_
  refine BS_aload_n dX2_arm_75 rfl ?_
  refine BS_call (run_V dX2_arm_76 con_X2_comma (ci := 1) rfl rfl q900 q902 qs19 q137 q903 pd_X2_comma ⟨Nat.le_of_ble_eq_true rfl, Nat.le_of_ble_eq_true rfl⟩) BV_no ?_
  refine BS_istore dX2_arm_79 (Nat.le_of_ble_eq_true rfl) ?_
  refine BS_goto (tgt := 8) dX2_arm_81 (by decide) ?_
  exact BS_back
noncomputable def F_X2_arm_b56 : KK OO :=
  op_ald 0 <| op_push (.int 5) <| op_call 2 (f_kd 11 F_X2_fail) kx_no <| op_throw kx_out
theorem bs_X2_arm_b56 : B_S M_X2_arm 56 (F_X2_arm_b56) z_O k_O := by
  unfold F_X2_arm_b56
  refine BS_aload_n dX2_arm_56 rfl ?_
  refine BS_iconst dX2_arm_57 (by decide) ?_
  refine BS_call (run_V dX2_arm_58 con_X2_fail (ci := 1) rfl rfl q691 q693 qs7 q137 q694 pd_X2_fail ⟨Nat.le_of_ble_eq_true rfl, Nat.le_of_ble_eq_true rfl⟩) BV_no ?_
  exact BS_throw dX2_arm_61 (BV_out (fun _ h => absurd h List.not_mem_nil))
noncomputable def F_X2_arm_b40 : KK OO :=
  op_ald 0 <| op_push (.int 4) <| op_call 2 (f_kd 11 F_X2_fail) kx_no <| op_throw kx_out
theorem bs_X2_arm_b40 : B_S M_X2_arm 40 (F_X2_arm_b40) z_O k_O := by
  unfold F_X2_arm_b40
  refine BS_aload_n dX2_arm_40 rfl ?_
  refine BS_iconst dX2_arm_41 (by decide) ?_
  refine BS_call (run_V dX2_arm_42 con_X2_fail (ci := 1) rfl rfl q691 q693 qs7 q137 q694 pd_X2_fail ⟨Nat.le_of_ble_eq_true rfl, Nat.le_of_ble_eq_true rfl⟩) BV_no ?_
  exact BS_throw dX2_arm_45 (BV_out (fun _ h => absurd h List.not_mem_nil))
noncomputable def F_X2_arm_b21 : KK OO :=
  op_ald 0 <| op_push (.int 1) <| op_call 2 (f_kd 11 F_X2_fail) kx_no <| op_throw kx_out
theorem bs_X2_arm_b21 : B_S M_X2_arm 21 (F_X2_arm_b21) z_O k_O := by
  unfold F_X2_arm_b21
  refine BS_aload_n dX2_arm_21 rfl ?_
  refine BS_iconst dX2_arm_22 (by decide) ?_
  refine BS_call (run_V dX2_arm_23 con_X2_fail (ci := 1) rfl rfl q691 q693 qs7 q137 q694 pd_X2_fail ⟨Nat.le_of_ble_eq_true rfl, Nat.le_of_ble_eq_true rfl⟩) BV_no ?_
  exact BS_throw dX2_arm_26 (BV_out (fun _ h => absurd h List.not_mem_nil))
noncomputable def F_X2_arm_l8 : KK (L_S ⊕ OO) :=
  op_ild 4 <| op_ieq (op_exit <| op_ald 1 <| op_ild 2 <| op_call 2 (f_or (f_kd 18 F_X11_size) (f_or (f_kd 19 F_X11_size) (f_kd 20 F_X11_size))) kx_no <| op_push (.int 1) <| op_cle (op_ild 2 <| op_ine (op_ald 0 <| op_gfi [11] 26 <| op_push (.int 59) <| op_ceq (F_X2_arm_b142) (op_ald 0 <| op_gfi [11] 26 <| op_ine (op_push (.int 0) <| F_X2_arm_b147) (F_X2_arm_b142))) (op_ald 0 <| op_gfi [11] 26 <| op_push (.int 2) <| op_cne (F_X2_arm_b122) (op_ald 0 <| op_gfr [11] 29 <| op_ldcs 13 <| op_call 2 (f_kd 27 F_J3_equals) kx_no <| op_ieq (F_X2_arm_b122) (op_push (.int 1) <| F_X2_arm_b147)))) (op_vret)) (op_ald 0 <| op_gfi [11] 26 <| op_push (.int 3) <| op_ceq (op_ald 0 <| op_gfi [11] 28 <| op_push (.int 1) <| op_push (.int 9) <| op_call 3 F_X1_in kx_no <| op_ine (op_ald 1 <| op_ild 2 <| op_call 2 (f_or (f_kd 18 F_X11_size) (f_or (f_kd 19 F_X11_size) (f_kd 20 F_X11_size))) kx_no <| op_push (.int 6) <| op_cne (op_ald 1 <| F_X2_arm_b63) (op_exit <| F_X2_arm_b56)) (op_exit <| F_X2_arm_b40)) (op_exit <| F_X2_arm_b21))
theorem bs_X2_arm_l8 : B_S M_X2_arm 8 (F_X2_arm_l8) (z_L z_O) (k_L 8 k_O) := by
  unfold F_X2_arm_l8
  refine BS_iload dX2_arm_8 ?_
  refine BS_if_eq (tgt := 84) dX2_arm_10 (by decide) ?_ ?_
  · refine BS_exit ?_
    refine BS_aload_n dX2_arm_84 rfl ?_
    refine BS_iload_n dX2_arm_85 rfl ?_
    refine BS_call ((run_or (run_U dX2_arm_86 con_X11_size (ci := 8) rfl q886 q888 q891 q887 q154 q892 (Or.inl ⟨_, _, _, q887, q892⟩) pu_Bo_size ⟨Nat.le_of_ble_eq_true rfl, Nat.le_of_ble_eq_true rfl⟩) (run_or (run_U dX2_arm_86 con_X11_size (ci := 9) rfl q886 q888 q890 q887 q154 q892 (Or.inl ⟨_, _, _, q887, q892⟩) pu_Bo_size ⟨Nat.le_of_ble_eq_true rfl, Nat.le_of_ble_eq_true rfl⟩) (run_U dX2_arm_86 con_X11_size (ci := 10) rfl q886 q888 q889 q887 q154 q892 (Or.inl ⟨_, _, _, q887, q892⟩) pu_Bo_size ⟨Nat.le_of_ble_eq_true rfl, Nat.le_of_ble_eq_true rfl⟩)))) BV_no ?_
    refine BS_iconst dX2_arm_89 (by decide) ?_
    refine BS_icmp_le (tgt := 94) dX2_arm_90 (by decide) ?_ ?_
    · refine BS_iload_n dX2_arm_94 rfl ?_
      refine BS_if_ne (tgt := 126) dX2_arm_95 (by decide) ?_ ?_
      · refine BS_aload_n dX2_arm_126 rfl ?_
        refine BS_gfi f_X2_47 dX2_arm_127 ?_
        refine BS_bipush dX2_arm_130 (by decide) ?_
        refine BS_icmp_eq (tgt := 142) dX2_arm_132 (by decide) ?_ ?_
        · exact bs_X2_arm_b142
        · refine BS_aload_n dX2_arm_135 rfl ?_
          refine BS_gfi f_X2_47 dX2_arm_136 ?_
          refine BS_if_ne (tgt := 146) dX2_arm_139 (by decide) ?_ ?_
          · refine BS_iconst dX2_arm_146 (by decide) ?_
            exact bs_X2_arm_b147
          · exact bs_X2_arm_b142
      · refine BS_aload_n dX2_arm_98 rfl ?_
        refine BS_gfi f_X2_47 dX2_arm_99 ?_
        refine BS_iconst dX2_arm_102 (by decide) ?_
        refine BS_icmp_ne (tgt := 122) dX2_arm_103 (by decide) ?_ ?_
        · exact bs_X2_arm_b122
        · refine BS_aload_n dX2_arm_106 rfl ?_
          refine BS_gfr f_X2_61 dX2_arm_107 ?_
          refine BS_ldcs dX2_arm_110 st_X2_106 ?_
          refine BS_call (run_V dX2_arm_112 con_J3_equals (ci := 17) rfl rfl q753 q754 q755 q148 q756 pd_J3_equals ⟨Nat.le_of_ble_eq_true rfl, Nat.le_of_ble_eq_true rfl⟩) BV_no ?_
          refine BS_if_eq (tgt := 122) dX2_arm_115 (by decide) ?_ ?_
          · exact bs_X2_arm_b122
          · refine BS_iconst dX2_arm_118 (by decide) ?_
            refine BS_goto (tgt := 147) dX2_arm_119 (by decide) ?_
            exact bs_X2_arm_b147
    · exact BS_return dX2_arm_93 rfl
  · refine BS_aload_n dX2_arm_13 rfl ?_
    refine BS_gfi f_X2_47 dX2_arm_14 ?_
    refine BS_iconst dX2_arm_17 (by decide) ?_
    refine BS_icmp_eq (tgt := 27) dX2_arm_18 (by decide) ?_ ?_
    · refine BS_aload_n dX2_arm_27 rfl ?_
      refine BS_gfi f_X2_68 dX2_arm_28 ?_
      refine BS_iconst dX2_arm_31 (by decide) ?_
      refine BS_bipush dX2_arm_32 (by decide) ?_
      refine BS_call (run_SN dX2_arm_34 con_X1_in q604 q500 q136 q501 pd_X1_in ⟨Nat.le_of_ble_eq_true rfl, Nat.le_of_ble_eq_true rfl⟩) BV_no ?_
      refine BS_if_ne (tgt := 46) dX2_arm_37 (by decide) ?_ ?_
      · refine BS_aload_n dX2_arm_46 rfl ?_
        refine BS_iload_n dX2_arm_47 rfl ?_
        refine BS_call ((run_or (run_U dX2_arm_48 con_X11_size (ci := 8) rfl q886 q888 q891 q887 q154 q892 (Or.inl ⟨_, _, _, q887, q892⟩) pu_Bo_size ⟨Nat.le_of_ble_eq_true rfl, Nat.le_of_ble_eq_true rfl⟩) (run_or (run_U dX2_arm_48 con_X11_size (ci := 9) rfl q886 q888 q890 q887 q154 q892 (Or.inl ⟨_, _, _, q887, q892⟩) pu_Bo_size ⟨Nat.le_of_ble_eq_true rfl, Nat.le_of_ble_eq_true rfl⟩) (run_U dX2_arm_48 con_X11_size (ci := 10) rfl q886 q888 q889 q887 q154 q892 (Or.inl ⟨_, _, _, q887, q892⟩) pu_Bo_size ⟨Nat.le_of_ble_eq_true rfl, Nat.le_of_ble_eq_true rfl⟩)))) BV_no ?_
        refine BS_bipush dX2_arm_51 (by decide) ?_
        refine BS_icmp_ne (tgt := 62) dX2_arm_53 (by decide) ?_ ?_
        · refine BS_aload_n dX2_arm_62 rfl ?_
          exact bs_X2_arm_b63
        · refine BS_exit ?_
          exact bs_X2_arm_b56
      · refine BS_exit ?_
        exact bs_X2_arm_b40
    · refine BS_exit ?_
      exact bs_X2_arm_b21
noncomputable def F_X2_arm_b8 : KK OO := op_loop (F_X2_arm_l8)
theorem bs_X2_arm_b8 : B_S M_X2_arm 8 (F_X2_arm_b8) z_O k_O := BS_loop (bs_X2_arm_l8)
noncomputable def F_X2_arm_b0 : KK OO :=
  op_ald 0 <| op_ald 3 <| op_call 2 (f_kd 11 F_X2_must) kx_out <| op_push (.int 1) <| op_ist 4 <| F_X2_arm_b8
theorem bs_X2_arm_b0 : B_S M_X2_arm 0 (F_X2_arm_b0) z_O k_O := by
  unfold F_X2_arm_b0
  refine BS_aload_n dX2_arm_0 rfl ?_
  refine BS_aload_n dX2_arm_1 rfl ?_
  refine BS_call (run_V dX2_arm_2 con_X2_must (ci := 1) rfl rfl q776 q778 qs10 q137 q779 pd_X2_must ⟨Nat.le_of_ble_eq_true rfl, Nat.le_of_ble_eq_true rfl⟩) (BV_out (fun _ h => absurd h List.not_mem_nil)) ?_
  refine BS_iconst dX2_arm_5 (by decide) ?_
  refine BS_istore dX2_arm_6 (Nat.le_of_ble_eq_true rfl) ?_
  exact bs_X2_arm_b8
noncomputable def F_X2_arm : FF := mk_F 6 F_X2_arm_b0
theorem con_X2_arm : Con_ yX2_arm (ws_ yX2_arm cX2_arm 6 none) 7 164 F_X2_arm := Con_of (by decide +kernel) bs_X2_arm_b0
/-- LongerHalf$Reader.begins(Z)V -/
abbrev M_X2_begins : MM := (yX2_begins, cX2_begins, none, 5, 122, 2, [])
theorem pd_X2_begins : (yX2_begins.cls ≠ "java/lang/invoke/MethodHandle" ∧ yX2_begins.cls ≠ "java/lang/invoke/VarHandle") ∧ (parseMethodDescriptor yX2_begins.desc).map (fun d => d.parameters.length) = some 1 := ⟨⟨by decide +kernel, by decide +kernel⟩, by decide +kernel⟩
noncomputable def F_X2_begins_b0 : KK OO :=
  op_ild 1 <| op_ine (op_ald 0 <| op_gfr [11] 30 <| op_gfi [17] 73 <| op_ine (op_ald 0 <| op_call 1 (f_kd 11 F_X2_next) kx_no <| op_vret) (op_ald 0 <| op_push (.int 6) <| op_call 2 (f_kd 11 F_X2_fail) kx_no <| op_throw kx_out)) (op_ald 0 <| op_push (.int 5) <| op_call 2 (f_kd 11 F_X2_fail) kx_no <| op_throw kx_out)
theorem bs_X2_begins_b0 : B_S M_X2_begins 0 (F_X2_begins_b0) z_O k_O := by
  unfold F_X2_begins_b0
  refine BS_iload_n dX2_begins_0 rfl ?_
  refine BS_if_ne (tgt := 10) dX2_begins_1 (by decide) ?_ ?_
  · refine BS_aload_n dX2_begins_10 rfl ?_
    refine BS_gfr f_X2_111 dX2_begins_11 ?_
    refine BS_gfi f_X2_134 dX2_begins_14 ?_
    refine BS_if_ne (tgt := 27) dX2_begins_17 (by decide) ?_ ?_
    · refine BS_aload_n dX2_begins_27 rfl ?_
      refine BS_call (run_V dX2_begins_28 con_X2_next (ci := 1) rfl rfl q593 q595 qs4 q137 q596 pd_X2_next ⟨Nat.le_of_ble_eq_true rfl, Nat.le_of_ble_eq_true rfl⟩) BV_no ?_
      exact BS_return dX2_begins_31 rfl
    · refine BS_aload_n dX2_begins_20 rfl ?_
      refine BS_bipush dX2_begins_21 (by decide) ?_
      refine BS_call (run_V dX2_begins_23 con_X2_fail (ci := 1) rfl rfl q691 q693 qs7 q137 q694 pd_X2_fail ⟨Nat.le_of_ble_eq_true rfl, Nat.le_of_ble_eq_true rfl⟩) BV_no ?_
      exact BS_throw dX2_begins_26 (BV_out (fun _ h => absurd h List.not_mem_nil))
  · refine BS_aload_n dX2_begins_4 rfl ?_
    refine BS_iconst dX2_begins_5 (by decide) ?_
    refine BS_call (run_V dX2_begins_6 con_X2_fail (ci := 1) rfl rfl q691 q693 qs7 q137 q694 pd_X2_fail ⟨Nat.le_of_ble_eq_true rfl, Nat.le_of_ble_eq_true rfl⟩) BV_no ?_
    exact BS_throw dX2_begins_9 (BV_out (fun _ h => absurd h List.not_mem_nil))
noncomputable def F_X2_begins : FF := mk_F 2 F_X2_begins_b0
theorem con_X2_begins : Con_ yX2_begins (ws_ yX2_begins cX2_begins 2 none) 5 122 F_X2_begins := Con_of (by decide +kernel) bs_X2_begins_b0
/-- LongerHalf$Reader.boneOf(Ljava/lang/String;I)LLongerHalf$Bone; -/
abbrev M_X2_boneOf : MM := (yX2_boneOf, cX2_boneOf, (some (.object "LongerHalf$Bone")), 7, 164, 3, [])
theorem pd_X2_boneOf : (yX2_boneOf.cls ≠ "java/lang/invoke/MethodHandle" ∧ yX2_boneOf.cls ≠ "java/lang/invoke/VarHandle") ∧ (parseMethodDescriptor yX2_boneOf.desc).map (fun d => d.parameters.length) = some 2 := ⟨⟨by decide +kernel, by decide +kernel⟩, by decide +kernel⟩
noncomputable def F_X2_boneOf_b0 : KK OO :=
  op_ald 0 <| op_ldcs 14 <| op_call 2 (f_kd 11 F_X2_takes) kx_no <| op_ieq (op_ald 0 <| op_ldcs 15 <| op_call 2 (f_kd 11 F_X2_takes) kx_no <| op_ieq (op_ald 0 <| op_ldcs 16 <| op_call 2 (f_kd 11 F_X2_must) kx_out <| op_new 10 5 <| op_dup <| op_ald 1 <| op_ild 2 <| op_call 3 (f_rcv F_X14_init) kx_no <| op_aret) (op_new 9 5 <| op_dup <| op_ald 1 <| op_ild 2 <| op_call 3 (f_rcv F_X13_init) kx_no <| op_aret)) (op_new 8 5 <| op_dup <| op_ald 1 <| op_ild 2 <| op_call 3 (f_rcv F_X12_init) kx_no <| op_aret)
theorem bs_X2_boneOf_b0 : B_S M_X2_boneOf 0 (F_X2_boneOf_b0) z_O k_O := by
  unfold F_X2_boneOf_b0
  refine BS_aload_n dX2_boneOf_0 rfl ?_
  refine BS_ldcs dX2_boneOf_1 st_X2_186 ?_
  refine BS_call (run_V dX2_boneOf_3 con_X2_takes (ci := 1) rfl rfl q780 q782 qs11 q137 q783 pd_X2_takes ⟨Nat.le_of_ble_eq_true rfl, Nat.le_of_ble_eq_true rfl⟩) BV_no ?_
  refine BS_if_eq (tgt := 19) dX2_boneOf_6 (by decide) ?_ ?_
  · refine BS_aload_n dX2_boneOf_19 rfl ?_
    refine BS_ldcs dX2_boneOf_20 st_X2_193 ?_
    refine BS_call (run_V dX2_boneOf_22 con_X2_takes (ci := 1) rfl rfl q780 q782 qs11 q137 q783 pd_X2_takes ⟨Nat.le_of_ble_eq_true rfl, Nat.le_of_ble_eq_true rfl⟩) BV_no ?_
    refine BS_if_eq (tgt := 38) dX2_boneOf_25 (by decide) ?_ ?_
    · refine BS_aload_n dX2_boneOf_38 rfl ?_
      refine BS_ldcs dX2_boneOf_39 st_X2_198 ?_
      refine BS_call (run_V dX2_boneOf_41 con_X2_must (ci := 1) rfl rfl q776 q778 qs10 q137 q779 pd_X2_must ⟨Nat.le_of_ble_eq_true rfl, Nat.le_of_ble_eq_true rfl⟩) (BV_out (fun _ h => absurd h List.not_mem_nil)) ?_
      refine BS_new dX2_boneOf_44 (ci := 10) rfl rfl q869 q870 q157 ?_
      refine BS_dup dX2_boneOf_47 ?_
      refine BS_aload_n dX2_boneOf_48 rfl ?_
      refine BS_iload_n dX2_boneOf_49 rfl ?_
      refine BS_call (run_I dX2_boneOf_50 con_X14_init q871 q872 q157 q873 rfl pd_X14_init ⟨Nat.le_of_ble_eq_true rfl, Nat.le_of_ble_eq_true rfl⟩) BV_no ?_
      exact BS_areturn dX2_boneOf_53 rfl (Or.inl ⟨_, rfl⟩)
    · refine BS_new dX2_boneOf_28 (ci := 9) rfl rfl q856 q857 q156 ?_
      refine BS_dup dX2_boneOf_31 ?_
      refine BS_aload_n dX2_boneOf_32 rfl ?_
      refine BS_iload_n dX2_boneOf_33 rfl ?_
      refine BS_call (run_I dX2_boneOf_34 con_X13_init q858 q859 q156 q860 rfl pd_X13_init ⟨Nat.le_of_ble_eq_true rfl, Nat.le_of_ble_eq_true rfl⟩) BV_no ?_
      exact BS_areturn dX2_boneOf_37 rfl (Or.inl ⟨_, rfl⟩)
  · refine BS_new dX2_boneOf_9 (ci := 8) rfl rfl q823 q824 q155 ?_
    refine BS_dup dX2_boneOf_12 ?_
    refine BS_aload_n dX2_boneOf_13 rfl ?_
    refine BS_iload_n dX2_boneOf_14 rfl ?_
    refine BS_call (run_I dX2_boneOf_15 con_X12_init q825 q826 q155 q827 rfl pd_X12_init ⟨Nat.le_of_ble_eq_true rfl, Nat.le_of_ble_eq_true rfl⟩) BV_no ?_
    exact BS_areturn dX2_boneOf_18 rfl (Or.inl ⟨_, rfl⟩)
noncomputable def F_X2_boneOf : FF := mk_F 3 F_X2_boneOf_b0
theorem con_X2_boneOf : Con_ yX2_boneOf (ws_ yX2_boneOf cX2_boneOf 3 (some (.object "LongerHalf$Bone"))) 7 164 F_X2_boneOf := Con_of (by decide +kernel) bs_X2_boneOf_b0
/-- LongerHalf$Reader.mustName()V -/
abbrev M_X2_mustName : MM := (yX2_mustName, cX2_mustName, none, 4, 90, 3, [])
theorem pd_X2_mustName : (yX2_mustName.cls ≠ "java/lang/invoke/MethodHandle" ∧ yX2_mustName.cls ≠ "java/lang/invoke/VarHandle") ∧ (parseMethodDescriptor yX2_mustName.desc).map (fun d => d.parameters.length) = some 0 := ⟨⟨by decide +kernel, by decide +kernel⟩, by decide +kernel⟩
noncomputable def F_X2_mustName_b290 : KK OO :=
  op_vret
theorem bs_X2_mustName_b290 : B_S M_X2_mustName 290 (F_X2_mustName_b290) z_O k_O := by
  unfold F_X2_mustName_b290
  exact BS_return dX2_mustName_290 rfl
noncomputable def F_X2_mustName_b284 : KK OO :=
  op_ald 0 <| op_push (.int 1) <| op_call 2 (f_kd 11 F_X2_fail) kx_no <| op_throw kx_out
theorem bs_X2_mustName_b284 : B_S M_X2_mustName 284 (F_X2_mustName_b284) z_O k_O := by
  unfold F_X2_mustName_b284
  refine BS_aload_n dX2_mustName_284 rfl ?_
  refine BS_iconst dX2_mustName_285 (by decide) ?_
  refine BS_call (run_V dX2_mustName_286 con_X2_fail (ci := 1) rfl rfl q691 q693 qs7 q137 q694 pd_X2_fail ⟨Nat.le_of_ble_eq_true rfl, Nat.le_of_ble_eq_true rfl⟩) BV_no ?_
  exact BS_throw dX2_mustName_289 (BV_out (fun _ h => absurd h List.not_mem_nil))
noncomputable def F_X2_mustName_b234 : KK OO :=
  op_ild 2 <| op_sw [((0), F_X2_mustName_b284), ((1), F_X2_mustName_b284), ((2), F_X2_mustName_b284), ((3), F_X2_mustName_b284), ((4), F_X2_mustName_b284), ((5), F_X2_mustName_b284), ((6), F_X2_mustName_b284), ((7), F_X2_mustName_b284), ((8), F_X2_mustName_b284)] (F_X2_mustName_b290)
theorem bs_X2_mustName_b234 : B_S M_X2_mustName 234 (F_X2_mustName_b234) z_O k_O := by
  unfold F_X2_mustName_b234
  refine BS_iload_n dX2_mustName_234 rfl ?_
  refine BS_tsw dX2_mustName_235 (by decide) (td := 290) (by decide) ?_ ?_
  · exact bs_X2_mustName_b290
  · exact ⟨by decide, ⟨284, by decide, by
        exact bs_X2_mustName_b284⟩, ⟨by decide, ⟨284, by decide, by
        exact bs_X2_mustName_b284⟩, ⟨by decide, ⟨284, by decide, by
        exact bs_X2_mustName_b284⟩, ⟨by decide, ⟨284, by decide, by
        exact bs_X2_mustName_b284⟩, ⟨by decide, ⟨284, by decide, by
        exact bs_X2_mustName_b284⟩, ⟨by decide, ⟨284, by decide, by
        exact bs_X2_mustName_b284⟩, ⟨by decide, ⟨284, by decide, by
        exact bs_X2_mustName_b284⟩, ⟨by decide, ⟨284, by decide, by
        exact bs_X2_mustName_b284⟩, ⟨by decide, ⟨284, by decide, by
        exact bs_X2_mustName_b284⟩, trivial⟩⟩⟩⟩⟩⟩⟩⟩⟩
noncomputable def F_X2_mustName_b192 : KK OO :=
  op_ald 1 <| op_ldcs 11 <| op_call 2 (f_kd 27 F_J3_equals) kx_no <| op_ieq (F_X2_mustName_b234) (op_push (.int 6) <| op_ist 2 <| F_X2_mustName_b234)
theorem bs_X2_mustName_b192 : B_S M_X2_mustName 192 (F_X2_mustName_b192) z_O k_O := by
  unfold F_X2_mustName_b192
  refine BS_aload_n dX2_mustName_192 rfl ?_
  refine BS_ldcs dX2_mustName_193 st_X2_102 ?_
  refine BS_call (run_V dX2_mustName_195 con_J3_equals (ci := 17) rfl rfl q753 q754 q755 q148 q756 pd_J3_equals ⟨Nat.le_of_ble_eq_true rfl, Nat.le_of_ble_eq_true rfl⟩) BV_no ?_
  refine BS_if_eq (tgt := 234) dX2_mustName_198 (by decide) ?_ ?_
  · exact bs_X2_mustName_b234
  · refine BS_bipush dX2_mustName_201 (by decide) ?_
    refine BS_istore_n dX2_mustName_203 rfl (Nat.le_of_ble_eq_true rfl) ?_
    refine BS_goto (tgt := 234) dX2_mustName_204 (by decide) ?_
    exact bs_X2_mustName_b234
noncomputable def F_X2_mustName_b136 : KK OO :=
  op_ald 1 <| op_ldcs 7 <| op_call 2 (f_kd 27 F_J3_equals) kx_no <| op_ieq (F_X2_mustName_b234) (op_push (.int 2) <| op_ist 2 <| F_X2_mustName_b234)
theorem bs_X2_mustName_b136 : B_S M_X2_mustName 136 (F_X2_mustName_b136) z_O k_O := by
  unfold F_X2_mustName_b136
  refine BS_aload_n dX2_mustName_136 rfl ?_
  refine BS_ldcs dX2_mustName_137 st_X2_94 ?_
  refine BS_call (run_V dX2_mustName_139 con_J3_equals (ci := 17) rfl rfl q753 q754 q755 q148 q756 pd_J3_equals ⟨Nat.le_of_ble_eq_true rfl, Nat.le_of_ble_eq_true rfl⟩) BV_no ?_
  refine BS_if_eq (tgt := 234) dX2_mustName_142 (by decide) ?_ ?_
  · exact bs_X2_mustName_b234
  · refine BS_iconst dX2_mustName_145 (by decide) ?_
    refine BS_istore_n dX2_mustName_146 rfl (Nat.le_of_ble_eq_true rfl) ?_
    refine BS_goto (tgt := 234) dX2_mustName_147 (by decide) ?_
    exact bs_X2_mustName_b234
noncomputable def F_X2_mustName_b108 : KK OO :=
  op_ald 1 <| op_ldcs 0 <| op_call 2 (f_kd 27 F_J3_equals) kx_no <| op_ieq (F_X2_mustName_b234) (op_push (.int 0) <| op_ist 2 <| F_X2_mustName_b234)
theorem bs_X2_mustName_b108 : B_S M_X2_mustName 108 (F_X2_mustName_b108) z_O k_O := by
  unfold F_X2_mustName_b108
  refine BS_aload_n dX2_mustName_108 rfl ?_
  refine BS_ldcs dX2_mustName_109 st_X2_90 ?_
  refine BS_call (run_V dX2_mustName_111 con_J3_equals (ci := 17) rfl rfl q753 q754 q755 q148 q756 pd_J3_equals ⟨Nat.le_of_ble_eq_true rfl, Nat.le_of_ble_eq_true rfl⟩) BV_no ?_
  refine BS_if_eq (tgt := 234) dX2_mustName_114 (by decide) ?_ ?_
  · exact bs_X2_mustName_b234
  · refine BS_iconst dX2_mustName_117 (by decide) ?_
    refine BS_istore_n dX2_mustName_118 rfl (Nat.le_of_ble_eq_true rfl) ?_
    refine BS_goto (tgt := 234) dX2_mustName_119 (by decide) ?_
    exact bs_X2_mustName_b234
noncomputable def F_X2_mustName_b150 : KK OO :=
  op_ald 1 <| op_ldcs 8 <| op_call 2 (f_kd 27 F_J3_equals) kx_no <| op_ieq (F_X2_mustName_b234) (op_push (.int 3) <| op_ist 2 <| F_X2_mustName_b234)
theorem bs_X2_mustName_b150 : B_S M_X2_mustName 150 (F_X2_mustName_b150) z_O k_O := by
  unfold F_X2_mustName_b150
  refine BS_aload_n dX2_mustName_150 rfl ?_
  refine BS_ldcs dX2_mustName_151 st_X2_96 ?_
  refine BS_call (run_V dX2_mustName_153 con_J3_equals (ci := 17) rfl rfl q753 q754 q755 q148 q756 pd_J3_equals ⟨Nat.le_of_ble_eq_true rfl, Nat.le_of_ble_eq_true rfl⟩) BV_no ?_
  refine BS_if_eq (tgt := 234) dX2_mustName_156 (by decide) ?_ ?_
  · exact bs_X2_mustName_b234
  · refine BS_iconst dX2_mustName_159 (by decide) ?_
    refine BS_istore_n dX2_mustName_160 rfl (Nat.le_of_ble_eq_true rfl) ?_
    refine BS_goto (tgt := 234) dX2_mustName_161 (by decide) ?_
    exact bs_X2_mustName_b234
noncomputable def F_X2_mustName_b164 : KK OO :=
  op_ald 1 <| op_ldcs 9 <| op_call 2 (f_kd 27 F_J3_equals) kx_no <| op_ieq (F_X2_mustName_b234) (op_push (.int 4) <| op_ist 2 <| F_X2_mustName_b234)
theorem bs_X2_mustName_b164 : B_S M_X2_mustName 164 (F_X2_mustName_b164) z_O k_O := by
  unfold F_X2_mustName_b164
  refine BS_aload_n dX2_mustName_164 rfl ?_
  refine BS_ldcs dX2_mustName_165 st_X2_98 ?_
  refine BS_call (run_V dX2_mustName_167 con_J3_equals (ci := 17) rfl rfl q753 q754 q755 q148 q756 pd_J3_equals ⟨Nat.le_of_ble_eq_true rfl, Nat.le_of_ble_eq_true rfl⟩) BV_no ?_
  refine BS_if_eq (tgt := 234) dX2_mustName_170 (by decide) ?_ ?_
  · exact bs_X2_mustName_b234
  · refine BS_iconst dX2_mustName_173 (by decide) ?_
    refine BS_istore_n dX2_mustName_174 rfl (Nat.le_of_ble_eq_true rfl) ?_
    refine BS_goto (tgt := 234) dX2_mustName_175 (by decide) ?_
    exact bs_X2_mustName_b234
noncomputable def F_X2_mustName_b122 : KK OO :=
  op_ald 1 <| op_ldcs 6 <| op_call 2 (f_kd 27 F_J3_equals) kx_no <| op_ieq (F_X2_mustName_b234) (op_push (.int 1) <| op_ist 2 <| F_X2_mustName_b234)
theorem bs_X2_mustName_b122 : B_S M_X2_mustName 122 (F_X2_mustName_b122) z_O k_O := by
  unfold F_X2_mustName_b122
  refine BS_aload_n dX2_mustName_122 rfl ?_
  refine BS_ldcs dX2_mustName_123 st_X2_92 ?_
  refine BS_call (run_V dX2_mustName_125 con_J3_equals (ci := 17) rfl rfl q753 q754 q755 q148 q756 pd_J3_equals ⟨Nat.le_of_ble_eq_true rfl, Nat.le_of_ble_eq_true rfl⟩) BV_no ?_
  refine BS_if_eq (tgt := 234) dX2_mustName_128 (by decide) ?_ ?_
  · exact bs_X2_mustName_b234
  · refine BS_iconst dX2_mustName_131 (by decide) ?_
    refine BS_istore_n dX2_mustName_132 rfl (Nat.le_of_ble_eq_true rfl) ?_
    refine BS_goto (tgt := 234) dX2_mustName_133 (by decide) ?_
    exact bs_X2_mustName_b234
noncomputable def F_X2_mustName_b207 : KK OO :=
  op_ald 1 <| op_ldcs 12 <| op_call 2 (f_kd 27 F_J3_equals) kx_no <| op_ieq (F_X2_mustName_b234) (op_push (.int 7) <| op_ist 2 <| F_X2_mustName_b234)
theorem bs_X2_mustName_b207 : B_S M_X2_mustName 207 (F_X2_mustName_b207) z_O k_O := by
  unfold F_X2_mustName_b207
  refine BS_aload_n dX2_mustName_207 rfl ?_
  refine BS_ldcs dX2_mustName_208 st_X2_104 ?_
  refine BS_call (run_V dX2_mustName_210 con_J3_equals (ci := 17) rfl rfl q753 q754 q755 q148 q756 pd_J3_equals ⟨Nat.le_of_ble_eq_true rfl, Nat.le_of_ble_eq_true rfl⟩) BV_no ?_
  refine BS_if_eq (tgt := 234) dX2_mustName_213 (by decide) ?_ ?_
  · exact bs_X2_mustName_b234
  · refine BS_bipush dX2_mustName_216 (by decide) ?_
    refine BS_istore_n dX2_mustName_218 rfl (Nat.le_of_ble_eq_true rfl) ?_
    refine BS_goto (tgt := 234) dX2_mustName_219 (by decide) ?_
    exact bs_X2_mustName_b234
noncomputable def F_X2_mustName_b178 : KK OO :=
  op_ald 1 <| op_ldcs 10 <| op_call 2 (f_kd 27 F_J3_equals) kx_no <| op_ieq (F_X2_mustName_b234) (op_push (.int 5) <| op_ist 2 <| F_X2_mustName_b234)
theorem bs_X2_mustName_b178 : B_S M_X2_mustName 178 (F_X2_mustName_b178) z_O k_O := by
  unfold F_X2_mustName_b178
  refine BS_aload_n dX2_mustName_178 rfl ?_
  refine BS_ldcs dX2_mustName_179 st_X2_100 ?_
  refine BS_call (run_V dX2_mustName_181 con_J3_equals (ci := 17) rfl rfl q753 q754 q755 q148 q756 pd_J3_equals ⟨Nat.le_of_ble_eq_true rfl, Nat.le_of_ble_eq_true rfl⟩) BV_no ?_
  refine BS_if_eq (tgt := 234) dX2_mustName_184 (by decide) ?_ ?_
  · exact bs_X2_mustName_b234
  · refine BS_iconst dX2_mustName_187 (by decide) ?_
    refine BS_istore_n dX2_mustName_188 rfl (Nat.le_of_ble_eq_true rfl) ?_
    refine BS_goto (tgt := 234) dX2_mustName_189 (by decide) ?_
    exact bs_X2_mustName_b234
noncomputable def F_X2_mustName_b222 : KK OO :=
  op_ald 1 <| op_ldcs 13 <| op_call 2 (f_kd 27 F_J3_equals) kx_no <| op_ieq (F_X2_mustName_b234) (op_push (.int 8) <| op_ist 2 <| F_X2_mustName_b234)
theorem bs_X2_mustName_b222 : B_S M_X2_mustName 222 (F_X2_mustName_b222) z_O k_O := by
  unfold F_X2_mustName_b222
  refine BS_aload_n dX2_mustName_222 rfl ?_
  refine BS_ldcs dX2_mustName_223 st_X2_106 ?_
  refine BS_call (run_V dX2_mustName_225 con_J3_equals (ci := 17) rfl rfl q753 q754 q755 q148 q756 pd_J3_equals ⟨Nat.le_of_ble_eq_true rfl, Nat.le_of_ble_eq_true rfl⟩) BV_no ?_
  refine BS_if_eq (tgt := 234) dX2_mustName_228 (by decide) ?_ ?_
  · exact bs_X2_mustName_b234
  · refine BS_bipush dX2_mustName_231 (by decide) ?_
    refine BS_istore_n dX2_mustName_233 rfl (Nat.le_of_ble_eq_true rfl) ?_
    exact bs_X2_mustName_b234
noncomputable def F_X2_mustName_b0 : KK OO :=
  op_ald 0 <| op_gfi [11] 26 <| op_push (.int 2) <| op_ceq (op_ald 0 <| op_gfr [11] 29 <| op_ast 1 <| op_push (.int (-1)) <| op_ist 2 <| op_ald 1 <| op_call 1 (f_kd 27 F_J3_hashCode) kx_no <| op_sw [(((-1361529344)), F_X2_mustName_b192), (((-991716523)), F_X2_mustName_b136), (((-705112156)), F_X2_mustName_b108), ((101577), F_X2_mustName_b150), ((117910), F_X2_mustName_b164), ((3029700), F_X2_mustName_b122), ((3317767), F_X2_mustName_b207), ((106662638), F_X2_mustName_b178), ((108511772), F_X2_mustName_b222)] (F_X2_mustName_b234)) (op_ald 0 <| op_push (.int 1) <| op_call 2 (f_kd 11 F_X2_fail) kx_no <| op_throw kx_out)
theorem bs_X2_mustName_b0 : B_S M_X2_mustName 0 (F_X2_mustName_b0) z_O k_O := by
  unfold F_X2_mustName_b0
  refine BS_aload_n dX2_mustName_0 rfl ?_
  refine BS_gfi f_X2_47 dX2_mustName_1 ?_
  refine BS_iconst dX2_mustName_4 (by decide) ?_
  refine BS_icmp_eq (tgt := 14) dX2_mustName_5 (by decide) ?_ ?_
  · refine BS_aload_n dX2_mustName_14 rfl ?_
    refine BS_gfr f_X2_61 dX2_mustName_15 ?_
    refine BS_astore_n dX2_mustName_18 rfl (Nat.le_of_ble_eq_true rfl) ?_
    refine BS_iconst dX2_mustName_19 (by decide) ?_
    refine BS_istore_n dX2_mustName_20 rfl (Nat.le_of_ble_eq_true rfl) ?_
    refine BS_aload_n dX2_mustName_21 rfl ?_
    refine BS_call (run_V dX2_mustName_22 con_J3_hashCode (ci := 17) rfl rfl q699 q700 q701 q148 q702 pd_J3_hashCode ⟨Nat.le_of_ble_eq_true rfl, Nat.le_of_ble_eq_true rfl⟩) BV_no ?_
    refine BS_lsw dX2_mustName_25 (by decide) (td := 234) (by decide) ?_ ?_
    · exact bs_X2_mustName_b234
    · exact ⟨by decide, ⟨192, by decide, by
        exact bs_X2_mustName_b192⟩, ⟨by decide, ⟨136, by decide, by
        exact bs_X2_mustName_b136⟩, ⟨by decide, ⟨108, by decide, by
        exact bs_X2_mustName_b108⟩, ⟨by decide, ⟨150, by decide, by
        exact bs_X2_mustName_b150⟩, ⟨by decide, ⟨164, by decide, by
        exact bs_X2_mustName_b164⟩, ⟨by decide, ⟨122, by decide, by
        exact bs_X2_mustName_b122⟩, ⟨by decide, ⟨207, by decide, by
        exact bs_X2_mustName_b207⟩, ⟨by decide, ⟨178, by decide, by
        exact bs_X2_mustName_b178⟩, ⟨by decide, ⟨222, by decide, by
        exact bs_X2_mustName_b222⟩, trivial⟩⟩⟩⟩⟩⟩⟩⟩⟩
  · refine BS_aload_n dX2_mustName_8 rfl ?_
    refine BS_iconst dX2_mustName_9 (by decide) ?_
    refine BS_call (run_V dX2_mustName_10 con_X2_fail (ci := 1) rfl rfl q691 q693 qs7 q137 q694 pd_X2_fail ⟨Nat.le_of_ble_eq_true rfl, Nat.le_of_ble_eq_true rfl⟩) BV_no ?_
    exact BS_throw dX2_mustName_13 (BV_out (fun _ h => absurd h List.not_mem_nil))
noncomputable def F_X2_mustName : FF := mk_F 3 F_X2_mustName_b0
theorem con_X2_mustName : Con_ yX2_mustName (ws_ yX2_mustName cX2_mustName 3 none) 4 90 F_X2_mustName := Con_of (by decide +kernel) bs_X2_mustName_b0
/-- LongerHalf$Reader.newName()Ljava/lang/String; -/
abbrev M_X2_newName : MM := (yX2_newName, cX2_newName, (some (.object "java/lang/String")), 5, 122, 2, [])
theorem pd_X2_newName : (yX2_newName.cls ≠ "java/lang/invoke/MethodHandle" ∧ yX2_newName.cls ≠ "java/lang/invoke/VarHandle") ∧ (parseMethodDescriptor yX2_newName.desc).map (fun d => d.parameters.length) = some 0 := ⟨⟨by decide +kernel, by decide +kernel⟩, by decide +kernel⟩
noncomputable def F_X2_newName_b0 : KK OO :=
  op_ald 0 <| op_call 1 (f_kd 11 F_X2_mustName) kx_out <| op_ald 0 <| op_gfr [11] 30 <| op_ald 0 <| op_gfr [11] 29 <| op_call 2 (f_kd 17 F_X9_find) kx_no <| op_ifn (op_ald 0 <| op_gfr [11] 29 <| op_ast 1 <| op_ald 0 <| op_call 1 (f_kd 11 F_X2_next) kx_no <| op_ald 1 <| op_aret) (op_ald 0 <| op_push (.int 3) <| op_call 2 (f_kd 11 F_X2_fail) kx_no <| op_throw kx_out)
theorem bs_X2_newName_b0 : B_S M_X2_newName 0 (F_X2_newName_b0) z_O k_O := by
  unfold F_X2_newName_b0
  refine BS_aload_n dX2_newName_0 rfl ?_
  refine BS_call (run_V dX2_newName_1 con_X2_mustName (ci := 1) rfl rfl q804 q806 qs16 q137 q807 pd_X2_mustName ⟨Nat.le_of_ble_eq_true rfl, Nat.le_of_ble_eq_true rfl⟩) (BV_out (fun _ h => absurd h List.not_mem_nil)) ?_
  refine BS_aload_n dX2_newName_4 rfl ?_
  refine BS_gfr f_X2_111 dX2_newName_5 ?_
  refine BS_aload_n dX2_newName_8 rfl ?_
  refine BS_gfr f_X2_61 dX2_newName_9 ?_
  refine BS_call (run_V dX2_newName_12 con_X9_find (ci := 7) rfl rfl q810 q811 q812 q147 q813 pd_X9_find ⟨Nat.le_of_ble_eq_true rfl, Nat.le_of_ble_eq_true rfl⟩) BV_no ?_
  refine BS_ifnull (tgt := 24) dX2_newName_15 (by decide) ?_ ?_
  · refine BS_aload_n dX2_newName_24 rfl ?_
    refine BS_gfr f_X2_61 dX2_newName_25 ?_
    refine BS_astore_n dX2_newName_28 rfl (Nat.le_of_ble_eq_true rfl) ?_
    refine BS_aload_n dX2_newName_29 rfl ?_
    refine BS_call (run_V dX2_newName_30 con_X2_next (ci := 1) rfl rfl q593 q595 qs4 q137 q596 pd_X2_next ⟨Nat.le_of_ble_eq_true rfl, Nat.le_of_ble_eq_true rfl⟩) BV_no ?_
    refine BS_aload_n dX2_newName_33 rfl ?_
    exact BS_areturn dX2_newName_34 rfl (Or.inl ⟨_, rfl⟩)
  · refine BS_aload_n dX2_newName_18 rfl ?_
    refine BS_iconst dX2_newName_19 (by decide) ?_
    refine BS_call (run_V dX2_newName_20 con_X2_fail (ci := 1) rfl rfl q691 q693 qs7 q137 q694 pd_X2_fail ⟨Nat.le_of_ble_eq_true rfl, Nat.le_of_ble_eq_true rfl⟩) BV_no ?_
    exact BS_throw dX2_newName_23 (BV_out (fun _ h => absurd h List.not_mem_nil))
noncomputable def F_X2_newName : FF := mk_F 2 F_X2_newName_b0
theorem con_X2_newName : Con_ yX2_newName (ws_ yX2_newName cX2_newName 2 (some (.object "java/lang/String"))) 5 122 F_X2_newName := Con_of (by decide +kernel) bs_X2_newName_b0
/-- LongerHalf$Reader.boneLine()V -/
abbrev M_X2_boneLine : MM := (yX2_boneLine, cX2_boneLine, none, 8, 189, 2, [])
theorem pd_X2_boneLine : (yX2_boneLine.cls ≠ "java/lang/invoke/MethodHandle" ∧ yX2_boneLine.cls ≠ "java/lang/invoke/VarHandle") ∧ (parseMethodDescriptor yX2_boneLine.desc).map (fun d => d.parameters.length) = some 0 := ⟨⟨by decide +kernel, by decide +kernel⟩, by decide +kernel⟩
noncomputable def F_X2_boneLine_b17 : KK OO :=
  op_call 2 (f_kd 11 F_X2_begins) kx_out <| op_ald 0 <| op_ald 0 <| op_call 1 (f_kd 11 F_X2_newName) kx_out <| op_ald 0 <| op_gfr [11] 30 <| op_gfi [17] 77 <| op_call 3 (f_kd 11 F_X2_boneOf) kx_out <| op_ast 1 <| op_ald 1 <| op_ald 0 <| op_ldcs 17 <| op_push (.int 0) <| op_push (.int 24) <| op_call 4 (f_kd 11 F_X2_after) kx_out <| op_pfi .int [18, 19, 20] 85 <| op_ald 0 <| op_ald 1 <| op_push (.int 0) <| op_ldcs 12 <| op_call 4 (f_kd 11 F_X2_arm) kx_out <| op_ald 0 <| op_ald 1 <| op_push (.int 1) <| op_ldcs 13 <| op_call 4 (f_kd 11 F_X2_arm) kx_out <| op_ald 0 <| op_gfr [11] 30 <| op_gfr [17] 68 <| op_ald 0 <| op_gfr [11] 30 <| op_gfi [17] 77 <| op_ald 1 <| op_aast 8 [18, 19, 20] <| op_ald 0 <| op_gfr [11] 30 <| op_dup <| op_gfi [17] 77 <| op_push (.int 1) <| op_i2 (fun x y => x + y) <| op_pfi .int [17] 77 <| op_vret
theorem bs_X2_boneLine_b17 : B_S M_X2_boneLine 17 (F_X2_boneLine_b17) z_O k_O := by
  unfold F_X2_boneLine_b17
  refine BS_call (run_V dX2_boneLine_17 con_X2_begins (ci := 1) rfl rfl q796 q798 qs14 q137 q799 pd_X2_begins ⟨Nat.le_of_ble_eq_true rfl, Nat.le_of_ble_eq_true rfl⟩) (BV_out (fun _ h => absurd h List.not_mem_nil)) ?_
  refine BS_aload_n dX2_boneLine_20 rfl ?_
  refine BS_aload_n dX2_boneLine_21 rfl ?_
  refine BS_call (run_V dX2_boneLine_22 con_X2_newName (ci := 1) rfl rfl q800 q802 qs15 q137 q803 pd_X2_newName ⟨Nat.le_of_ble_eq_true rfl, Nat.le_of_ble_eq_true rfl⟩) (BV_out (fun _ h => absurd h List.not_mem_nil)) ?_
  refine BS_aload_n dX2_boneLine_25 rfl ?_
  refine BS_gfr f_X2_111 dX2_boneLine_26 ?_
  refine BS_gfi f_X2_141 dX2_boneLine_29 ?_
  refine BS_call (run_V dX2_boneLine_32 con_X2_boneOf (ci := 1) rfl rfl q818 q820 qs17 q137 q821 pd_X2_boneOf ⟨Nat.le_of_ble_eq_true rfl, Nat.le_of_ble_eq_true rfl⟩) (BV_out (fun _ h => absurd h List.not_mem_nil)) ?_
  refine BS_astore_n dX2_boneLine_35 rfl (Nat.le_of_ble_eq_true rfl) ?_
  refine BS_aload_n dX2_boneLine_36 rfl ?_
  refine BS_aload_n dX2_boneLine_37 rfl ?_
  refine BS_ldcs dX2_boneLine_38 st_X2_227 ?_
  refine BS_iconst dX2_boneLine_40 (by decide) ?_
  refine BS_bipush dX2_boneLine_41 (by decide) ?_
  refine BS_call (run_V dX2_boneLine_43 con_X2_after (ci := 1) rfl rfl q772 q774 qs9 q137 q775 pd_X2_after ⟨Nat.le_of_ble_eq_true rfl, Nat.le_of_ble_eq_true rfl⟩) (BV_out (fun _ h => absurd h List.not_mem_nil)) ?_
  refine BS_pfi p_X2_229 (fun h => by cases h) dX2_boneLine_46 ?_
  refine BS_aload_n dX2_boneLine_49 rfl ?_
  refine BS_aload_n dX2_boneLine_50 rfl ?_
  refine BS_iconst dX2_boneLine_51 (by decide) ?_
  refine BS_ldcs dX2_boneLine_52 st_X2_104 ?_
  refine BS_call (run_V dX2_boneLine_54 con_X2_arm (ci := 1) rfl rfl q882 q884 qs18 q137 q885 pd_X2_arm ⟨Nat.le_of_ble_eq_true rfl, Nat.le_of_ble_eq_true rfl⟩) (BV_out (fun _ h => absurd h List.not_mem_nil)) ?_
  refine BS_aload_n dX2_boneLine_57 rfl ?_
  refine BS_aload_n dX2_boneLine_58 rfl ?_
  refine BS_iconst dX2_boneLine_59 (by decide) ?_
  refine BS_ldcs dX2_boneLine_60 st_X2_106 ?_
  refine BS_call (run_V dX2_boneLine_62 con_X2_arm (ci := 1) rfl rfl q882 q884 qs18 q137 q885 pd_X2_arm ⟨Nat.le_of_ble_eq_true rfl, Nat.le_of_ble_eq_true rfl⟩) (BV_out (fun _ h => absurd h List.not_mem_nil)) ?_
  refine BS_aload_n dX2_boneLine_65 rfl ?_
  refine BS_gfr f_X2_111 dX2_boneLine_66 ?_
  refine BS_gfr f_X2_235 dX2_boneLine_69 ?_
  refine BS_aload_n dX2_boneLine_72 rfl ?_
  refine BS_gfr f_X2_111 dX2_boneLine_73 ?_
  refine BS_gfi f_X2_141 dX2_boneLine_76 ?_
  refine BS_aload_n dX2_boneLine_79 rfl ?_
  refine BS_aastore dX2_boneLine_80 (by decide) (by decide) (C := "LongerHalf$Bone") rfl ao_8 ?_
  refine BS_aload_n dX2_boneLine_81 rfl ?_
  refine BS_gfr f_X2_111 dX2_boneLine_82 ?_
  refine BS_dup dX2_boneLine_85 ?_
  refine BS_gfi f_X2_141 dX2_boneLine_86 ?_
  refine BS_iconst dX2_boneLine_89 (by decide) ?_
  refine BS_iadd dX2_boneLine_90 ?_
  refine BS_pfi p_X2_141 (fun h => by cases h) dX2_boneLine_91 ?_
  exact BS_return dX2_boneLine_94 rfl
noncomputable def F_X2_boneLine_b0 : KK OO :=
  op_ald 0 <| op_ald 0 <| op_gfr [11] 30 <| op_gfi [17] 77 <| op_push (.int 5) <| op_cge (op_push (.int 0) <| F_X2_boneLine_b17) (op_push (.int 1) <| F_X2_boneLine_b17)
theorem bs_X2_boneLine_b0 : B_S M_X2_boneLine 0 (F_X2_boneLine_b0) z_O k_O := by
  unfold F_X2_boneLine_b0
  refine BS_aload_n dX2_boneLine_0 rfl ?_
  refine BS_aload_n dX2_boneLine_1 rfl ?_
  refine BS_gfr f_X2_111 dX2_boneLine_2 ?_
  refine BS_gfi f_X2_141 dX2_boneLine_5 ?_
  refine BS_iconst dX2_boneLine_8 (by decide) ?_
  refine BS_icmp_ge (tgt := 16) dX2_boneLine_9 (by decide) ?_ ?_
  · refine BS_iconst dX2_boneLine_16 (by decide) ?_
    exact bs_X2_boneLine_b17
  · refine BS_iconst dX2_boneLine_12 (by decide) ?_
    refine BS_goto (tgt := 17) dX2_boneLine_13 (by decide) ?_
    exact bs_X2_boneLine_b17
noncomputable def F_X2_boneLine : FF := mk_F 2 F_X2_boneLine_b0
theorem con_X2_boneLine : Con_ yX2_boneLine (ws_ yX2_boneLine cX2_boneLine 2 none) 8 189 F_X2_boneLine := Con_of (by decide +kernel) bs_X2_boneLine_b0
/-- LongerHalf$Reader.personHere()LLongerHalf$Person; -/
abbrev M_X2_personHere : MM := (yX2_personHere, cX2_personHere, (some (.object "LongerHalf$Person")), 5, 112, 2, [])
theorem pd_X2_personHere : (yX2_personHere.cls ≠ "java/lang/invoke/MethodHandle" ∧ yX2_personHere.cls ≠ "java/lang/invoke/VarHandle") ∧ (parseMethodDescriptor yX2_personHere.desc).map (fun d => d.parameters.length) = some 0 := ⟨⟨by decide +kernel, by decide +kernel⟩, by decide +kernel⟩
noncomputable def F_X2_personHere_b0 : KK OO :=
  op_ald 0 <| op_call 1 (f_kd 11 F_X2_mustName) kx_out <| op_ald 0 <| op_gfr [11] 30 <| op_ald 0 <| op_gfr [11] 29 <| op_call 2 (f_kd 17 F_X9_find) kx_no <| op_ast 1 <| op_ald 1 <| op_inst [21, 22, 23, 24] [18, 19, 20] <| op_ine (op_ald 1 <| op_cast [21, 22, 23, 24] <| op_aret) (op_ald 0 <| op_push (.int 2) <| op_call 2 (f_kd 11 F_X2_fail) kx_no <| op_throw kx_out)
theorem bs_X2_personHere_b0 : B_S M_X2_personHere 0 (F_X2_personHere_b0) z_O k_O := by
  unfold F_X2_personHere_b0
  refine BS_aload_n dX2_personHere_0 rfl ?_
  refine BS_call (run_V dX2_personHere_1 con_X2_mustName (ci := 1) rfl rfl q804 q806 qs16 q137 q807 pd_X2_mustName ⟨Nat.le_of_ble_eq_true rfl, Nat.le_of_ble_eq_true rfl⟩) (BV_out (fun _ h => absurd h List.not_mem_nil)) ?_
  refine BS_aload_n dX2_personHere_4 rfl ?_
  refine BS_gfr f_X2_111 dX2_personHere_5 ?_
  refine BS_aload_n dX2_personHere_8 rfl ?_
  refine BS_gfr f_X2_61 dX2_personHere_9 ?_
  refine BS_call (run_V dX2_personHere_12 con_X9_find (ci := 7) rfl rfl q810 q811 q812 q147 q813 pd_X9_find ⟨Nat.le_of_ble_eq_true rfl, Nat.le_of_ble_eq_true rfl⟩) BV_no ?_
  refine BS_astore_n dX2_personHere_15 rfl (Nat.le_of_ble_eq_true rfl) ?_
  refine BS_aload_n dX2_personHere_16 rfl ?_
  refine BS_inst dX2_personHere_17 q1043 ti_Person ao_6 no_B ?_
  refine BS_if_ne (tgt := 29) dX2_personHere_20 (by decide) ?_ ?_
  · refine BS_aload_n dX2_personHere_29 rfl ?_
    refine BS_cast dX2_personHere_30 q1043 ti_Person ao_6 ?_
    exact BS_areturn dX2_personHere_33 rfl (Or.inl ⟨_, rfl⟩)
  · refine BS_aload_n dX2_personHere_23 rfl ?_
    refine BS_iconst dX2_personHere_24 (by decide) ?_
    refine BS_call (run_V dX2_personHere_25 con_X2_fail (ci := 1) rfl rfl q691 q693 qs7 q137 q694 pd_X2_fail ⟨Nat.le_of_ble_eq_true rfl, Nat.le_of_ble_eq_true rfl⟩) BV_no ?_
    exact BS_throw dX2_personHere_28 (BV_out (fun _ h => absurd h List.not_mem_nil))
noncomputable def F_X2_personHere : FF := mk_F 2 F_X2_personHere_b0
theorem con_X2_personHere : Con_ yX2_personHere (ws_ yX2_personHere cX2_personHere 2 (some (.object "LongerHalf$Person"))) 5 112 F_X2_personHere := Con_of (by decide +kernel) bs_X2_personHere_b0
/-- LongerHalf$Reader.cheats()V -/
abbrev M_X2_cheats : MM := (yX2_cheats, cX2_cheats, none, 8, 187, 3, [])
theorem pd_X2_cheats : (yX2_cheats.cls ≠ "java/lang/invoke/MethodHandle" ∧ yX2_cheats.cls ≠ "java/lang/invoke/VarHandle") ∧ (parseMethodDescriptor yX2_cheats.desc).map (fun d => d.parameters.length) = some 0 := ⟨⟨by decide +kernel, by decide +kernel⟩, by decide +kernel⟩
noncomputable def F_X2_cheats_b0 : KK OO :=
  op_ald 0 <| op_push (.int 1) <| op_call 2 (f_kd 11 F_X2_begins) kx_out <| op_ald 0 <| op_call 1 (f_kd 11 F_X2_personHere) kx_out <| op_ast 1 <| op_ald 1 <| op_gfi [21, 22, 23, 24] 94 <| op_push (.int (-2)) <| op_ceq (op_ald 0 <| op_call 1 (f_kd 11 F_X2_next) kx_no <| op_ald 0 <| op_push (.int 0) <| op_push (.int 99) <| op_call 3 (f_kd 11 F_X2_number) kx_out <| op_ist 2 <| op_ald 1 <| op_ald 0 <| op_ldcs 4 <| op_push (.int 1) <| op_push (.int 9) <| op_call 4 (f_kd 11 F_X2_after) kx_out <| op_pfi .int [21, 22, 23, 24] 95 <| op_ald 1 <| op_ald 0 <| op_ldcs 25 <| op_push (.int 1) <| op_push (.int 9) <| op_call 4 (f_kd 11 F_X2_after) kx_out <| op_pfi .int [21, 22, 23, 24] 96 <| op_ald 1 <| op_ild 2 <| op_pfi .int [21, 22, 23, 24] 94 <| op_vret) (op_ald 0 <| op_push (.int 3) <| op_call 2 (f_kd 11 F_X2_fail) kx_no <| op_throw kx_out)
theorem bs_X2_cheats_b0 : B_S M_X2_cheats 0 (F_X2_cheats_b0) z_O k_O := by
  unfold F_X2_cheats_b0
  refine BS_aload_n dX2_cheats_0 rfl ?_
  refine BS_iconst dX2_cheats_1 (by decide) ?_
  refine BS_call (run_V dX2_cheats_2 con_X2_begins (ci := 1) rfl rfl q796 q798 qs14 q137 q799 pd_X2_begins ⟨Nat.le_of_ble_eq_true rfl, Nat.le_of_ble_eq_true rfl⟩) (BV_out (fun _ h => absurd h List.not_mem_nil)) ?_
  refine BS_aload_n dX2_cheats_5 rfl ?_
  refine BS_call (run_V dX2_cheats_6 con_X2_personHere (ci := 1) rfl rfl q1039 q1041 qs24 q137 q1042 pd_X2_personHere ⟨Nat.le_of_ble_eq_true rfl, Nat.le_of_ble_eq_true rfl⟩) (BV_out (fun _ h => absurd h List.not_mem_nil)) ?_
  refine BS_astore_n dX2_cheats_9 rfl (Nat.le_of_ble_eq_true rfl) ?_
  refine BS_aload_n dX2_cheats_10 rfl ?_
  refine BS_gfi f_X2_320 dX2_cheats_11 ?_
  refine BS_bipush dX2_cheats_14 (by decide) ?_
  refine BS_icmp_eq (tgt := 25) dX2_cheats_16 (by decide) ?_ ?_
  · refine BS_aload_n dX2_cheats_25 rfl ?_
    refine BS_call (run_V dX2_cheats_26 con_X2_next (ci := 1) rfl rfl q593 q595 qs4 q137 q596 pd_X2_next ⟨Nat.le_of_ble_eq_true rfl, Nat.le_of_ble_eq_true rfl⟩) BV_no ?_
    refine BS_aload_n dX2_cheats_29 rfl ?_
    refine BS_iconst dX2_cheats_30 (by decide) ?_
    refine BS_bipush dX2_cheats_31 (by decide) ?_
    refine BS_call (run_V dX2_cheats_33 con_X2_number (ci := 1) rfl rfl q784 q786 qs12 q137 q787 pd_X2_number ⟨Nat.le_of_ble_eq_true rfl, Nat.le_of_ble_eq_true rfl⟩) (BV_out (fun _ h => absurd h List.not_mem_nil)) ?_
    refine BS_istore_n dX2_cheats_36 rfl (Nat.le_of_ble_eq_true rfl) ?_
    refine BS_aload_n dX2_cheats_37 rfl ?_
    refine BS_aload_n dX2_cheats_38 rfl ?_
    refine BS_ldcs dX2_cheats_39 st_X2_178 ?_
    refine BS_iconst dX2_cheats_41 (by decide) ?_
    refine BS_bipush dX2_cheats_42 (by decide) ?_
    refine BS_call (run_V dX2_cheats_44 con_X2_after (ci := 1) rfl rfl q772 q774 qs9 q137 q775 pd_X2_after ⟨Nat.le_of_ble_eq_true rfl, Nat.le_of_ble_eq_true rfl⟩) (BV_out (fun _ h => absurd h List.not_mem_nil)) ?_
    refine BS_pfi p_X2_323 (fun h => by cases h) dX2_cheats_47 ?_
    refine BS_aload_n dX2_cheats_50 rfl ?_
    refine BS_aload_n dX2_cheats_51 rfl ?_
    refine BS_ldcsw dX2_cheats_52 st_X2_324 ?_
    refine BS_iconst dX2_cheats_55 (by decide) ?_
    refine BS_bipush dX2_cheats_56 (by decide) ?_
    refine BS_call (run_V dX2_cheats_58 con_X2_after (ci := 1) rfl rfl q772 q774 qs9 q137 q775 pd_X2_after ⟨Nat.le_of_ble_eq_true rfl, Nat.le_of_ble_eq_true rfl⟩) (BV_out (fun _ h => absurd h List.not_mem_nil)) ?_
    refine BS_pfi p_X2_326 (fun h => by cases h) dX2_cheats_61 ?_
    refine BS_aload_n dX2_cheats_64 rfl ?_
    refine BS_iload_n dX2_cheats_65 rfl ?_
    refine BS_pfi p_X2_320 (fun h => by cases h) dX2_cheats_66 ?_
    exact BS_return dX2_cheats_69 rfl
  · refine BS_aload_n dX2_cheats_19 rfl ?_
    refine BS_iconst dX2_cheats_20 (by decide) ?_
    refine BS_call (run_V dX2_cheats_21 con_X2_fail (ci := 1) rfl rfl q691 q693 qs7 q137 q694 pd_X2_fail ⟨Nat.le_of_ble_eq_true rfl, Nat.le_of_ble_eq_true rfl⟩) BV_no ?_
    exact BS_throw dX2_cheats_24 (BV_out (fun _ h => absurd h List.not_mem_nil))
noncomputable def F_X2_cheats : FF := mk_F 3 F_X2_cheats_b0
theorem con_X2_cheats : Con_ yX2_cheats (ws_ yX2_cheats cX2_cheats 3 none) 8 187 F_X2_cheats := Con_of (by decide +kernel) bs_X2_cheats_b0
/-- LongerHalf$Reader.person()LLongerHalf$Person; -/
abbrev M_X2_person : MM := (yX2_person, cX2_person, (some (.object "LongerHalf$Person")), 6, 133, 2, [])
theorem pd_X2_person : (yX2_person.cls ≠ "java/lang/invoke/MethodHandle" ∧ yX2_person.cls ≠ "java/lang/invoke/VarHandle") ∧ (parseMethodDescriptor yX2_person.desc).map (fun d => d.parameters.length) = some 0 := ⟨⟨by decide +kernel, by decide +kernel⟩, by decide +kernel⟩
noncomputable def F_X2_person_b0 : KK OO :=
  op_ald 0 <| op_call 1 (f_kd 11 F_X2_personHere) kx_out <| op_ast 1 <| op_ald 0 <| op_call 1 (f_kd 11 F_X2_next) kx_no <| op_ald 1 <| op_aret
theorem bs_X2_person_b0 : B_S M_X2_person 0 (F_X2_person_b0) z_O k_O := by
  unfold F_X2_person_b0
  refine BS_aload_n dX2_person_0 rfl ?_
  refine BS_call (run_V dX2_person_1 con_X2_personHere (ci := 1) rfl rfl q1039 q1041 qs24 q137 q1042 pd_X2_personHere ⟨Nat.le_of_ble_eq_true rfl, Nat.le_of_ble_eq_true rfl⟩) (BV_out (fun _ h => absurd h List.not_mem_nil)) ?_
  refine BS_astore_n dX2_person_4 rfl (Nat.le_of_ble_eq_true rfl) ?_
  refine BS_aload_n dX2_person_5 rfl ?_
  refine BS_call (run_V dX2_person_6 con_X2_next (ci := 1) rfl rfl q593 q595 qs4 q137 q596 pd_X2_next ⟨Nat.le_of_ble_eq_true rfl, Nat.le_of_ble_eq_true rfl⟩) BV_no ?_
  refine BS_aload_n dX2_person_9 rfl ?_
  exact BS_areturn dX2_person_10 rfl (Or.inl ⟨_, rfl⟩)
noncomputable def F_X2_person : FF := mk_F 2 F_X2_person_b0
theorem con_X2_person : Con_ yX2_person (ws_ yX2_person cX2_person 2 (some (.object "LongerHalf$Person"))) 6 133 F_X2_person := Con_of (by decide +kernel) bs_X2_person_b0
/-- LongerHalf$Reader.forLine()V -/
abbrev M_X2_forLine : MM := (yX2_forLine, cX2_forLine, none, 7, 154, 4, [])
theorem pd_X2_forLine : (yX2_forLine.cls ≠ "java/lang/invoke/MethodHandle" ∧ yX2_forLine.cls ≠ "java/lang/invoke/VarHandle") ∧ (parseMethodDescriptor yX2_forLine.desc).map (fun d => d.parameters.length) = some 0 := ⟨⟨by decide +kernel, by decide +kernel⟩, by decide +kernel⟩
noncomputable def F_X2_forLine_b50 : KK OO :=
  op_ald 0 <| op_push (.int 3) <| op_call 2 (f_kd 11 F_X2_fail) kx_no <| op_throw kx_out
theorem bs_X2_forLine_b50 : B_S M_X2_forLine 50 (F_X2_forLine_b50) z_O k_O := by
  unfold F_X2_forLine_b50
  refine BS_aload_n dX2_forLine_50 rfl ?_
  refine BS_iconst dX2_forLine_51 (by decide) ?_
  refine BS_call (run_V dX2_forLine_52 con_X2_fail (ci := 1) rfl rfl q691 q693 qs7 q137 q694 pd_X2_fail ⟨Nat.le_of_ble_eq_true rfl, Nat.le_of_ble_eq_true rfl⟩) BV_no ?_
  exact BS_throw dX2_forLine_55 (BV_out (fun _ h => absurd h List.not_mem_nil))
noncomputable def F_X2_forLine_b18 : KK OO :=
  op_call 2 (f_kd 11 F_X2_begins) kx_out <| op_ald 0 <| op_call 1 (f_kd 11 F_X2_person) kx_out <| op_ast 1 <| op_ald 0 <| op_call 1 (f_kd 11 F_X2_personHere) kx_out <| op_ast 2 <| op_ald 1 <| op_ald 2 <| op_aeq (F_X2_forLine_b50) (op_ald 1 <| op_gfi [21, 22, 23, 24] 97 <| op_ald 2 <| op_gfi [21, 22, 23, 24] 87 <| op_call 2 F_X1_has kx_no <| op_ieq (op_ald 0 <| op_call 1 (f_kd 11 F_X2_next) kx_no <| op_ald 0 <| op_push (.int 0) <| op_push (.int 99) <| op_call 3 (f_kd 11 F_X2_number) kx_out <| op_ist 3 <| op_ald 1 <| op_gfr [21, 22, 23, 24] 88 <| op_ald 2 <| op_gfi [21, 22, 23, 24] 87 <| op_ild 3 <| op_iast 1 .int <| op_ald 1 <| op_dup <| op_gfi [21, 22, 23, 24] 97 <| op_push (.int 1) <| op_ald 2 <| op_gfi [21, 22, 23, 24] 87 <| op_i2 (fun x y => x <<< (y &&& 31)) <| op_i2 (fun x y => x ||| y) <| op_pfi .int [21, 22, 23, 24] 97 <| op_ald 0 <| op_gfr [11] 30 <| op_dup <| op_gfi [17] 79 <| op_push (.int 1) <| op_i2 (fun x y => x + y) <| op_pfi .int [17] 79 <| op_vret) (F_X2_forLine_b50))
theorem bs_X2_forLine_b18 : B_S M_X2_forLine 18 (F_X2_forLine_b18) z_O k_O := by
  unfold F_X2_forLine_b18
  refine BS_call (run_V dX2_forLine_18 con_X2_begins (ci := 1) rfl rfl q796 q798 qs14 q137 q799 pd_X2_begins ⟨Nat.le_of_ble_eq_true rfl, Nat.le_of_ble_eq_true rfl⟩) (BV_out (fun _ h => absurd h List.not_mem_nil)) ?_
  refine BS_aload_n dX2_forLine_21 rfl ?_
  refine BS_call (run_V dX2_forLine_22 con_X2_person (ci := 1) rfl rfl q1035 q1037 qs23 q137 q1038 pd_X2_person ⟨Nat.le_of_ble_eq_true rfl, Nat.le_of_ble_eq_true rfl⟩) (BV_out (fun _ h => absurd h List.not_mem_nil)) ?_
  refine BS_astore_n dX2_forLine_25 rfl (Nat.le_of_ble_eq_true rfl) ?_
  refine BS_aload_n dX2_forLine_26 rfl ?_
  refine BS_call (run_V dX2_forLine_27 con_X2_personHere (ci := 1) rfl rfl q1039 q1041 qs24 q137 q1042 pd_X2_personHere ⟨Nat.le_of_ble_eq_true rfl, Nat.le_of_ble_eq_true rfl⟩) (BV_out (fun _ h => absurd h List.not_mem_nil)) ?_
  refine BS_astore_n dX2_forLine_30 rfl (Nat.le_of_ble_eq_true rfl) ?_
  refine BS_aload_n dX2_forLine_31 rfl ?_
  refine BS_aload_n dX2_forLine_32 rfl ?_
  refine BS_acmp_eq (tgt := 50) dX2_forLine_33 (by decide) ?_ ?_
  · exact bs_X2_forLine_b50
  · refine BS_aload_n dX2_forLine_36 rfl ?_
    refine BS_gfi f_X2_284 dX2_forLine_37 ?_
    refine BS_aload_n dX2_forLine_40 rfl ?_
    refine BS_gfi f_X2_287 dX2_forLine_41 ?_
    refine BS_call (run_SN dX2_forLine_44 con_X1_has q1044 q1045 q136 q1046 pd_X1_has ⟨Nat.le_of_ble_eq_true rfl, Nat.le_of_ble_eq_true rfl⟩) BV_no ?_
    refine BS_if_eq (tgt := 56) dX2_forLine_47 (by decide) ?_ ?_
    · refine BS_aload_n dX2_forLine_56 rfl ?_
      refine BS_call (run_V dX2_forLine_57 con_X2_next (ci := 1) rfl rfl q593 q595 qs4 q137 q596 pd_X2_next ⟨Nat.le_of_ble_eq_true rfl, Nat.le_of_ble_eq_true rfl⟩) BV_no ?_
      refine BS_aload_n dX2_forLine_60 rfl ?_
      refine BS_iconst dX2_forLine_61 (by decide) ?_
      refine BS_bipush dX2_forLine_62 (by decide) ?_
      refine BS_call (run_V dX2_forLine_64 con_X2_number (ci := 1) rfl rfl q784 q786 qs12 q137 q787 pd_X2_number ⟨Nat.le_of_ble_eq_true rfl, Nat.le_of_ble_eq_true rfl⟩) (BV_out (fun _ h => absurd h List.not_mem_nil)) ?_
      refine BS_istore_n dX2_forLine_67 rfl (Nat.le_of_ble_eq_true rfl) ?_
      refine BS_aload_n dX2_forLine_68 rfl ?_
      refine BS_gfr f_X2_293 dX2_forLine_69 ?_
      refine BS_aload_n dX2_forLine_72 rfl ?_
      refine BS_gfi f_X2_287 dX2_forLine_73 ?_
      refine BS_iload_n dX2_forLine_76 rfl ?_
      refine BS_iastore dX2_forLine_77 ?_
      refine BS_aload_n dX2_forLine_78 rfl ?_
      refine BS_dup dX2_forLine_79 ?_
      refine BS_gfi f_X2_284 dX2_forLine_80 ?_
      refine BS_iconst dX2_forLine_83 (by decide) ?_
      refine BS_aload_n dX2_forLine_84 rfl ?_
      refine BS_gfi f_X2_287 dX2_forLine_85 ?_
      refine BS_ishl dX2_forLine_88 ?_
      refine BS_ior dX2_forLine_89 ?_
      refine BS_pfi p_X2_284 (fun h => by cases h) dX2_forLine_90 ?_
      refine BS_aload_n dX2_forLine_93 rfl ?_
      refine BS_gfr f_X2_111 dX2_forLine_94 ?_
      refine BS_dup dX2_forLine_97 ?_
      refine BS_gfi f_X2_279 dX2_forLine_98 ?_
      refine BS_iconst dX2_forLine_101 (by decide) ?_
      refine BS_iadd dX2_forLine_102 ?_
      refine BS_pfi p_X2_279 (fun h => by cases h) dX2_forLine_103 ?_
      exact BS_return dX2_forLine_106 rfl
    · exact bs_X2_forLine_b50
noncomputable def F_X2_forLine_b0 : KK OO :=
  op_ald 0 <| op_ald 0 <| op_gfr [11] 30 <| op_gfi [17] 79 <| op_push (.int 10) <| op_cge (op_push (.int 0) <| F_X2_forLine_b18) (op_push (.int 1) <| F_X2_forLine_b18)
theorem bs_X2_forLine_b0 : B_S M_X2_forLine 0 (F_X2_forLine_b0) z_O k_O := by
  unfold F_X2_forLine_b0
  refine BS_aload_n dX2_forLine_0 rfl ?_
  refine BS_aload_n dX2_forLine_1 rfl ?_
  refine BS_gfr f_X2_111 dX2_forLine_2 ?_
  refine BS_gfi f_X2_279 dX2_forLine_5 ?_
  refine BS_bipush dX2_forLine_8 (by decide) ?_
  refine BS_icmp_ge (tgt := 17) dX2_forLine_10 (by decide) ?_ ?_
  · refine BS_iconst dX2_forLine_17 (by decide) ?_
    exact bs_X2_forLine_b18
  · refine BS_iconst dX2_forLine_13 (by decide) ?_
    refine BS_goto (tgt := 18) dX2_forLine_14 (by decide) ?_
    exact bs_X2_forLine_b18
noncomputable def F_X2_forLine : FF := mk_F 4 F_X2_forLine_b0
theorem con_X2_forLine : Con_ yX2_forLine (ws_ yX2_forLine cX2_forLine 4 none) 7 154 F_X2_forLine := Con_of (by decide +kernel) bs_X2_forLine_b0
/-- LongerHalf$Reader.kitchenLine()V -/
abbrev M_X2_kitchenLine : MM := (yX2_kitchenLine, cX2_kitchenLine, none, 8, 187, 2, [])
theorem pd_X2_kitchenLine : (yX2_kitchenLine.cls ≠ "java/lang/invoke/MethodHandle" ∧ yX2_kitchenLine.cls ≠ "java/lang/invoke/VarHandle") ∧ (parseMethodDescriptor yX2_kitchenLine.desc).map (fun d => d.parameters.length) = some 0 := ⟨⟨by decide +kernel, by decide +kernel⟩, by decide +kernel⟩
noncomputable def F_X2_kitchenLine_b96 : KK OO :=
  op_gfr [11] 30 <| op_ild 1 <| op_pfi .int [17] 73 <| op_vret
theorem bs_X2_kitchenLine_b96 : B_S M_X2_kitchenLine 96 (F_X2_kitchenLine_b96) z_O k_O := by
  unfold F_X2_kitchenLine_b96
  refine BS_gfr f_X2_111 dX2_kitchenLine_96 ?_
  refine BS_iload_n dX2_kitchenLine_99 rfl ?_
  refine BS_pfi p_X2_134 (fun h => by cases h) dX2_kitchenLine_100 ?_
  exact BS_return dX2_kitchenLine_103 rfl
noncomputable def F_X2_kitchenLine_b10 : KK OO :=
  op_ald 0 <| op_push (.int 3) <| op_call 2 (f_kd 11 F_X2_fail) kx_no <| op_throw kx_out
theorem bs_X2_kitchenLine_b10 : B_S M_X2_kitchenLine 10 (F_X2_kitchenLine_b10) z_O k_O := by
  unfold F_X2_kitchenLine_b10
  refine BS_aload_n dX2_kitchenLine_10 rfl ?_
  refine BS_iconst dX2_kitchenLine_11 (by decide) ?_
  refine BS_call (run_V dX2_kitchenLine_12 con_X2_fail (ci := 1) rfl rfl q691 q693 qs7 q137 q694 pd_X2_fail ⟨Nat.le_of_ble_eq_true rfl, Nat.le_of_ble_eq_true rfl⟩) BV_no ?_
  exact BS_throw dX2_kitchenLine_15 (BV_out (fun _ h => absurd h List.not_mem_nil))
noncomputable def F_X2_kitchenLine_b0 : KK OO :=
  op_ald 0 <| op_gfr [11] 30 <| op_gfi [17] 73 <| op_ile (op_ald 0 <| op_call 1 (f_kd 11 F_X2_next) kx_no <| op_ald 0 <| op_gfr [11] 30 <| op_ald 0 <| op_ldcs 1 <| op_push (.int 0) <| op_push (.int 9) <| op_call 4 (f_kd 11 F_X2_after) kx_out <| op_pfi .int [17] 72 <| op_ald 0 <| op_ldcs 2 <| op_push (.int 25) <| op_push (.int 60) <| op_call 4 (f_kd 11 F_X2_after) kx_out <| op_ist 1 <| op_ald 0 <| op_gfr [11] 30 <| op_ald 0 <| op_ldcs 3 <| op_push (.int 0) <| op_push (.int 99) <| op_call 4 (f_kd 11 F_X2_after) kx_out <| op_pfi .int [17] 74 <| op_ald 0 <| op_gfr [11] 30 <| op_ald 0 <| op_ldcs 4 <| op_push (.int 0) <| op_push (.int 99) <| op_call 4 (f_kd 11 F_X2_after) kx_out <| op_pfi .int [17] 75 <| op_ald 0 <| op_gfr [11] 30 <| op_ald 0 <| op_ldcs 5 <| op_push (.int 0) <| op_push (.int 99) <| op_call 4 (f_kd 11 F_X2_after) kx_out <| op_pfi .int [17] 76 <| op_ald 0 <| F_X2_kitchenLine_b96) (F_X2_kitchenLine_b10)
theorem bs_X2_kitchenLine_b0 : B_S M_X2_kitchenLine 0 (F_X2_kitchenLine_b0) z_O k_O := by
  unfold F_X2_kitchenLine_b0
  refine BS_aload_n dX2_kitchenLine_0 rfl ?_
  refine BS_gfr f_X2_111 dX2_kitchenLine_1 ?_
  refine BS_gfi f_X2_134 dX2_kitchenLine_4 ?_
  refine BS_if_le (tgt := 16) dX2_kitchenLine_7 (by decide) ?_ ?_
  · refine BS_aload_n dX2_kitchenLine_16 rfl ?_
    refine BS_call (run_V dX2_kitchenLine_17 con_X2_next (ci := 1) rfl rfl q593 q595 qs4 q137 q596 pd_X2_next ⟨Nat.le_of_ble_eq_true rfl, Nat.le_of_ble_eq_true rfl⟩) BV_no ?_
    refine BS_aload_n dX2_kitchenLine_20 rfl ?_
    refine BS_gfr f_X2_111 dX2_kitchenLine_21 ?_
    refine BS_aload_n dX2_kitchenLine_24 rfl ?_
    refine BS_ldcs dX2_kitchenLine_25 st_X2_165 ?_
    refine BS_iconst dX2_kitchenLine_27 (by decide) ?_
    refine BS_bipush dX2_kitchenLine_28 (by decide) ?_
    refine BS_call (run_V dX2_kitchenLine_30 con_X2_after (ci := 1) rfl rfl q772 q774 qs9 q137 q775 pd_X2_after ⟨Nat.le_of_ble_eq_true rfl, Nat.le_of_ble_eq_true rfl⟩) (BV_out (fun _ h => absurd h List.not_mem_nil)) ?_
    refine BS_pfi p_X2_171 (fun h => by cases h) dX2_kitchenLine_33 ?_
    refine BS_aload_n dX2_kitchenLine_36 rfl ?_
    refine BS_ldcs dX2_kitchenLine_37 st_X2_173 ?_
    refine BS_bipush dX2_kitchenLine_39 (by decide) ?_
    refine BS_bipush dX2_kitchenLine_41 (by decide) ?_
    refine BS_call (run_V dX2_kitchenLine_43 con_X2_after (ci := 1) rfl rfl q772 q774 qs9 q137 q775 pd_X2_after ⟨Nat.le_of_ble_eq_true rfl, Nat.le_of_ble_eq_true rfl⟩) (BV_out (fun _ h => absurd h List.not_mem_nil)) ?_
    refine BS_istore_n dX2_kitchenLine_46 rfl (Nat.le_of_ble_eq_true rfl) ?_
    refine BS_aload_n dX2_kitchenLine_47 rfl ?_
    refine BS_gfr f_X2_111 dX2_kitchenLine_48 ?_
    refine BS_aload_n dX2_kitchenLine_51 rfl ?_
    refine BS_ldcs dX2_kitchenLine_52 st_X2_174 ?_
    refine BS_iconst dX2_kitchenLine_54 (by decide) ?_
    refine BS_bipush dX2_kitchenLine_55 (by decide) ?_
    refine BS_call (run_V dX2_kitchenLine_57 con_X2_after (ci := 1) rfl rfl q772 q774 qs9 q137 q775 pd_X2_after ⟨Nat.le_of_ble_eq_true rfl, Nat.le_of_ble_eq_true rfl⟩) (BV_out (fun _ h => absurd h List.not_mem_nil)) ?_
    refine BS_pfi p_X2_176 (fun h => by cases h) dX2_kitchenLine_60 ?_
    refine BS_aload_n dX2_kitchenLine_63 rfl ?_
    refine BS_gfr f_X2_111 dX2_kitchenLine_64 ?_
    refine BS_aload_n dX2_kitchenLine_67 rfl ?_
    refine BS_ldcs dX2_kitchenLine_68 st_X2_178 ?_
    refine BS_iconst dX2_kitchenLine_70 (by decide) ?_
    refine BS_bipush dX2_kitchenLine_71 (by decide) ?_
    refine BS_call (run_V dX2_kitchenLine_73 con_X2_after (ci := 1) rfl rfl q772 q774 qs9 q137 q775 pd_X2_after ⟨Nat.le_of_ble_eq_true rfl, Nat.le_of_ble_eq_true rfl⟩) (BV_out (fun _ h => absurd h List.not_mem_nil)) ?_
    refine BS_pfi p_X2_180 (fun h => by cases h) dX2_kitchenLine_76 ?_
    refine BS_aload_n dX2_kitchenLine_79 rfl ?_
    refine BS_gfr f_X2_111 dX2_kitchenLine_80 ?_
    refine BS_aload_n dX2_kitchenLine_83 rfl ?_
    refine BS_ldcs dX2_kitchenLine_84 st_X2_182 ?_
    refine BS_iconst dX2_kitchenLine_86 (by decide) ?_
    refine BS_bipush dX2_kitchenLine_87 (by decide) ?_
    refine BS_call (run_V dX2_kitchenLine_89 con_X2_after (ci := 1) rfl rfl q772 q774 qs9 q137 q775 pd_X2_after ⟨Nat.le_of_ble_eq_true rfl, Nat.le_of_ble_eq_true rfl⟩) (BV_out (fun _ h => absurd h List.not_mem_nil)) ?_
    refine BS_pfi p_X2_184 (fun h => by cases h) dX2_kitchenLine_92 ?_
    refine BS_aload_n dX2_kitchenLine_95 rfl ?_
    exact bs_X2_kitchenLine_b96
  · exact bs_X2_kitchenLine_b10
noncomputable def F_X2_kitchenLine : FF := mk_F 2 F_X2_kitchenLine_b0
theorem con_X2_kitchenLine : Con_ yX2_kitchenLine (ws_ yX2_kitchenLine cX2_kitchenLine 2 none) 8 187 F_X2_kitchenLine := Con_of (by decide +kernel) bs_X2_kitchenLine_b0
/-- LongerHalf$Reader.personOf(Ljava/lang/String;I)LLongerHalf$Person; -/
abbrev M_X2_personOf : MM := (yX2_personOf, cX2_personOf, (some (.object "LongerHalf$Person")), 7, 164, 3, [])
theorem pd_X2_personOf : (yX2_personOf.cls ≠ "java/lang/invoke/MethodHandle" ∧ yX2_personOf.cls ≠ "java/lang/invoke/VarHandle") ∧ (parseMethodDescriptor yX2_personOf.desc).map (fun d => d.parameters.length) = some 2 := ⟨⟨by decide +kernel, by decide +kernel⟩, by decide +kernel⟩
noncomputable def F_X2_personOf_b0 : KK OO :=
  op_ald 0 <| op_ldcs 18 <| op_call 2 (f_kd 11 F_X2_takes) kx_no <| op_ieq (op_ald 0 <| op_ldcs 19 <| op_call 2 (f_kd 11 F_X2_takes) kx_no <| op_ieq (op_ald 0 <| op_ldcs 20 <| op_call 2 (f_kd 11 F_X2_takes) kx_no <| op_ieq (op_ald 0 <| op_ldcs 21 <| op_call 2 (f_kd 11 F_X2_must) kx_out <| op_new 14 12 <| op_dup <| op_ald 1 <| op_ild 2 <| op_call 3 (f_rcv F_X19_init) kx_no <| op_aret) (op_new 13 12 <| op_dup <| op_ald 1 <| op_ild 2 <| op_call 3 (f_rcv F_X18_init) kx_no <| op_aret)) (op_new 12 12 <| op_dup <| op_ald 1 <| op_ild 2 <| op_call 3 (f_rcv F_X17_init) kx_no <| op_aret)) (op_new 11 12 <| op_dup <| op_ald 1 <| op_ild 2 <| op_call 3 (f_rcv F_X16_init) kx_no <| op_aret)
theorem bs_X2_personOf_b0 : B_S M_X2_personOf 0 (F_X2_personOf_b0) z_O k_O := by
  unfold F_X2_personOf_b0
  refine BS_aload_n dX2_personOf_0 rfl ?_
  refine BS_ldcs dX2_personOf_1 st_X2_239 ?_
  refine BS_call (run_V dX2_personOf_3 con_X2_takes (ci := 1) rfl rfl q780 q782 qs11 q137 q783 pd_X2_takes ⟨Nat.le_of_ble_eq_true rfl, Nat.le_of_ble_eq_true rfl⟩) BV_no ?_
  refine BS_if_eq (tgt := 19) dX2_personOf_6 (by decide) ?_ ?_
  · refine BS_aload_n dX2_personOf_19 rfl ?_
    refine BS_ldcs dX2_personOf_20 st_X2_244 ?_
    refine BS_call (run_V dX2_personOf_22 con_X2_takes (ci := 1) rfl rfl q780 q782 qs11 q137 q783 pd_X2_takes ⟨Nat.le_of_ble_eq_true rfl, Nat.le_of_ble_eq_true rfl⟩) BV_no ?_
    refine BS_if_eq (tgt := 38) dX2_personOf_25 (by decide) ?_ ?_
    · refine BS_aload_n dX2_personOf_38 rfl ?_
      refine BS_ldcs dX2_personOf_39 st_X2_249 ?_
      refine BS_call (run_V dX2_personOf_41 con_X2_takes (ci := 1) rfl rfl q780 q782 qs11 q137 q783 pd_X2_takes ⟨Nat.le_of_ble_eq_true rfl, Nat.le_of_ble_eq_true rfl⟩) BV_no ?_
      refine BS_if_eq (tgt := 57) dX2_personOf_44 (by decide) ?_ ?_
      · refine BS_aload_n dX2_personOf_57 rfl ?_
        refine BS_ldcs dX2_personOf_58 st_X2_254 ?_
        refine BS_call (run_V dX2_personOf_60 con_X2_must (ci := 1) rfl rfl q776 q778 qs10 q137 q779 pd_X2_must ⟨Nat.le_of_ble_eq_true rfl, Nat.le_of_ble_eq_true rfl⟩) (BV_out (fun _ h => absurd h List.not_mem_nil)) ?_
        refine BS_new dX2_personOf_63 (ci := 14) rfl rfl q1009 q1010 q162 ?_
        refine BS_dup dX2_personOf_66 ?_
        refine BS_aload_n dX2_personOf_67 rfl ?_
        refine BS_iload_n dX2_personOf_68 rfl ?_
        refine BS_call (run_I dX2_personOf_69 con_X19_init q1011 q1012 q162 q1013 rfl pd_X19_init ⟨Nat.le_of_ble_eq_true rfl, Nat.le_of_ble_eq_true rfl⟩) BV_no ?_
        exact BS_areturn dX2_personOf_72 rfl (Or.inl ⟨_, rfl⟩)
      · refine BS_new dX2_personOf_47 (ci := 13) rfl rfl q989 q990 q161 ?_
        refine BS_dup dX2_personOf_50 ?_
        refine BS_aload_n dX2_personOf_51 rfl ?_
        refine BS_iload_n dX2_personOf_52 rfl ?_
        refine BS_call (run_I dX2_personOf_53 con_X18_init q991 q992 q161 q993 rfl pd_X18_init ⟨Nat.le_of_ble_eq_true rfl, Nat.le_of_ble_eq_true rfl⟩) BV_no ?_
        exact BS_areturn dX2_personOf_56 rfl (Or.inl ⟨_, rfl⟩)
    · refine BS_new dX2_personOf_28 (ci := 12) rfl rfl q969 q970 q160 ?_
      refine BS_dup dX2_personOf_31 ?_
      refine BS_aload_n dX2_personOf_32 rfl ?_
      refine BS_iload_n dX2_personOf_33 rfl ?_
      refine BS_call (run_I dX2_personOf_34 con_X17_init q971 q972 q160 q973 rfl pd_X17_init ⟨Nat.le_of_ble_eq_true rfl, Nat.le_of_ble_eq_true rfl⟩) BV_no ?_
      exact BS_areturn dX2_personOf_37 rfl (Or.inl ⟨_, rfl⟩)
  · refine BS_new dX2_personOf_9 (ci := 11) rfl rfl q913 q914 q159 ?_
    refine BS_dup dX2_personOf_12 ?_
    refine BS_aload_n dX2_personOf_13 rfl ?_
    refine BS_iload_n dX2_personOf_14 rfl ?_
    refine BS_call (run_I dX2_personOf_15 con_X16_init q915 q916 q159 q917 rfl pd_X16_init ⟨Nat.le_of_ble_eq_true rfl, Nat.le_of_ble_eq_true rfl⟩) BV_no ?_
    exact BS_areturn dX2_personOf_18 rfl (Or.inl ⟨_, rfl⟩)
noncomputable def F_X2_personOf : FF := mk_F 3 F_X2_personOf_b0
theorem con_X2_personOf : Con_ yX2_personOf (ws_ yX2_personOf cX2_personOf 3 (some (.object "LongerHalf$Person"))) 7 164 F_X2_personOf := Con_of (by decide +kernel) bs_X2_personOf_b0
/-- LongerHalf$Reader.personLine()V -/
abbrev M_X2_personLine : MM := (yX2_personLine, cX2_personLine, none, 8, 187, 2, [])
theorem pd_X2_personLine : (yX2_personLine.cls ≠ "java/lang/invoke/MethodHandle" ∧ yX2_personLine.cls ≠ "java/lang/invoke/VarHandle") ∧ (parseMethodDescriptor yX2_personLine.desc).map (fun d => d.parameters.length) = some 0 := ⟨⟨by decide +kernel, by decide +kernel⟩, by decide +kernel⟩
noncomputable def F_X2_personLine_b18 : KK OO :=
  op_call 2 (f_kd 11 F_X2_begins) kx_out <| op_ald 0 <| op_ald 0 <| op_call 1 (f_kd 11 F_X2_newName) kx_out <| op_ald 0 <| op_gfr [11] 30 <| op_gfi [17] 78 <| op_call 3 (f_kd 11 F_X2_personOf) kx_out <| op_ast 1 <| op_ald 1 <| op_ald 0 <| op_ldcs 22 <| op_push (.int 1) <| op_push (.int 40) <| op_call 4 (f_kd 11 F_X2_after) kx_out <| op_pfi .int [21, 22, 23, 24] 89 <| op_ald 1 <| op_ald 0 <| op_ldcs 23 <| op_push (.int 1) <| op_push (.int 6) <| op_call 4 (f_kd 11 F_X2_after) kx_out <| op_pfi .int [21, 22, 23, 24] 90 <| op_ald 1 <| op_ald 0 <| op_ldcs 24 <| op_push (.int 0) <| op_push (.int 99) <| op_call 4 (f_kd 11 F_X2_after) kx_out <| op_pfi .int [21, 22, 23, 24] 91 <| op_ald 0 <| op_gfr [11] 30 <| op_gfr [17] 69 <| op_ald 0 <| op_gfr [11] 30 <| op_gfi [17] 78 <| op_ald 1 <| op_aast 6 [21, 22, 23, 24] <| op_ald 0 <| op_gfr [11] 30 <| op_dup <| op_gfi [17] 78 <| op_push (.int 1) <| op_i2 (fun x y => x + y) <| op_pfi .int [17] 78 <| op_vret
theorem bs_X2_personLine_b18 : B_S M_X2_personLine 18 (F_X2_personLine_b18) z_O k_O := by
  unfold F_X2_personLine_b18
  refine BS_call (run_V dX2_personLine_18 con_X2_begins (ci := 1) rfl rfl q796 q798 qs14 q137 q799 pd_X2_begins ⟨Nat.le_of_ble_eq_true rfl, Nat.le_of_ble_eq_true rfl⟩) (BV_out (fun _ h => absurd h List.not_mem_nil)) ?_
  refine BS_aload_n dX2_personLine_21 rfl ?_
  refine BS_aload_n dX2_personLine_22 rfl ?_
  refine BS_call (run_V dX2_personLine_23 con_X2_newName (ci := 1) rfl rfl q800 q802 qs15 q137 q803 pd_X2_newName ⟨Nat.le_of_ble_eq_true rfl, Nat.le_of_ble_eq_true rfl⟩) (BV_out (fun _ h => absurd h List.not_mem_nil)) ?_
  refine BS_aload_n dX2_personLine_26 rfl ?_
  refine BS_gfr f_X2_111 dX2_personLine_27 ?_
  refine BS_gfi f_X2_144 dX2_personLine_30 ?_
  refine BS_call (run_V dX2_personLine_33 con_X2_personOf (ci := 1) rfl rfl q908 q910 qs21 q137 q911 pd_X2_personOf ⟨Nat.le_of_ble_eq_true rfl, Nat.le_of_ble_eq_true rfl⟩) (BV_out (fun _ h => absurd h List.not_mem_nil)) ?_
  refine BS_astore_n dX2_personLine_36 rfl (Nat.le_of_ble_eq_true rfl) ?_
  refine BS_aload_n dX2_personLine_37 rfl ?_
  refine BS_aload_n dX2_personLine_38 rfl ?_
  refine BS_ldcsw dX2_personLine_39 st_X2_263 ?_
  refine BS_iconst dX2_personLine_42 (by decide) ?_
  refine BS_bipush dX2_personLine_43 (by decide) ?_
  refine BS_call (run_V dX2_personLine_45 con_X2_after (ci := 1) rfl rfl q772 q774 qs9 q137 q775 pd_X2_after ⟨Nat.le_of_ble_eq_true rfl, Nat.le_of_ble_eq_true rfl⟩) (BV_out (fun _ h => absurd h List.not_mem_nil)) ?_
  refine BS_pfi p_X2_265 (fun h => by cases h) dX2_personLine_48 ?_
  refine BS_aload_n dX2_personLine_51 rfl ?_
  refine BS_aload_n dX2_personLine_52 rfl ?_
  refine BS_ldcsw dX2_personLine_53 st_X2_267 ?_
  refine BS_iconst dX2_personLine_56 (by decide) ?_
  refine BS_bipush dX2_personLine_57 (by decide) ?_
  refine BS_call (run_V dX2_personLine_59 con_X2_after (ci := 1) rfl rfl q772 q774 qs9 q137 q775 pd_X2_after ⟨Nat.le_of_ble_eq_true rfl, Nat.le_of_ble_eq_true rfl⟩) (BV_out (fun _ h => absurd h List.not_mem_nil)) ?_
  refine BS_pfi p_X2_269 (fun h => by cases h) dX2_personLine_62 ?_
  refine BS_aload_n dX2_personLine_65 rfl ?_
  refine BS_aload_n dX2_personLine_66 rfl ?_
  refine BS_ldcsw dX2_personLine_67 st_X2_271 ?_
  refine BS_iconst dX2_personLine_70 (by decide) ?_
  refine BS_bipush dX2_personLine_71 (by decide) ?_
  refine BS_call (run_V dX2_personLine_73 con_X2_after (ci := 1) rfl rfl q772 q774 qs9 q137 q775 pd_X2_after ⟨Nat.le_of_ble_eq_true rfl, Nat.le_of_ble_eq_true rfl⟩) (BV_out (fun _ h => absurd h List.not_mem_nil)) ?_
  refine BS_pfi p_X2_273 (fun h => by cases h) dX2_personLine_76 ?_
  refine BS_aload_n dX2_personLine_79 rfl ?_
  refine BS_gfr f_X2_111 dX2_personLine_80 ?_
  refine BS_gfr f_X2_275 dX2_personLine_83 ?_
  refine BS_aload_n dX2_personLine_86 rfl ?_
  refine BS_gfr f_X2_111 dX2_personLine_87 ?_
  refine BS_gfi f_X2_144 dX2_personLine_90 ?_
  refine BS_aload_n dX2_personLine_93 rfl ?_
  refine BS_aastore dX2_personLine_94 (by decide) (by decide) (C := "LongerHalf$Person") rfl ao_6 ?_
  refine BS_aload_n dX2_personLine_95 rfl ?_
  refine BS_gfr f_X2_111 dX2_personLine_96 ?_
  refine BS_dup dX2_personLine_99 ?_
  refine BS_gfi f_X2_144 dX2_personLine_100 ?_
  refine BS_iconst dX2_personLine_103 (by decide) ?_
  refine BS_iadd dX2_personLine_104 ?_
  refine BS_pfi p_X2_144 (fun h => by cases h) dX2_personLine_105 ?_
  exact BS_return dX2_personLine_108 rfl
noncomputable def F_X2_personLine_b0 : KK OO :=
  op_ald 0 <| op_ald 0 <| op_gfr [11] 30 <| op_gfi [17] 78 <| op_push (.int 6) <| op_cge (op_push (.int 0) <| F_X2_personLine_b18) (op_push (.int 1) <| F_X2_personLine_b18)
theorem bs_X2_personLine_b0 : B_S M_X2_personLine 0 (F_X2_personLine_b0) z_O k_O := by
  unfold F_X2_personLine_b0
  refine BS_aload_n dX2_personLine_0 rfl ?_
  refine BS_aload_n dX2_personLine_1 rfl ?_
  refine BS_gfr f_X2_111 dX2_personLine_2 ?_
  refine BS_gfi f_X2_144 dX2_personLine_5 ?_
  refine BS_bipush dX2_personLine_8 (by decide) ?_
  refine BS_icmp_ge (tgt := 17) dX2_personLine_10 (by decide) ?_ ?_
  · refine BS_iconst dX2_personLine_17 (by decide) ?_
    exact bs_X2_personLine_b18
  · refine BS_iconst dX2_personLine_13 (by decide) ?_
    refine BS_goto (tgt := 18) dX2_personLine_14 (by decide) ?_
    exact bs_X2_personLine_b18
noncomputable def F_X2_personLine : FF := mk_F 2 F_X2_personLine_b0
theorem con_X2_personLine : Con_ yX2_personLine (ws_ yX2_personLine cX2_personLine 2 none) 8 187 F_X2_personLine := Con_of (by decide +kernel) bs_X2_personLine_b0
/-- LongerHalf$Reader.side()I -/
abbrev M_X2_side : MM := (yX2_side, cX2_side, (some .int), 7, 164, 1, [])
theorem pd_X2_side : (yX2_side.cls ≠ "java/lang/invoke/MethodHandle" ∧ yX2_side.cls ≠ "java/lang/invoke/VarHandle") ∧ (parseMethodDescriptor yX2_side.desc).map (fun d => d.parameters.length) = some 0 := ⟨⟨by decide +kernel, by decide +kernel⟩, by decide +kernel⟩
noncomputable def F_X2_side_b0 : KK OO :=
  op_ald 0 <| op_ldcs 12 <| op_call 2 (f_kd 11 F_X2_takes) kx_no <| op_ieq (op_ald 0 <| op_ldcs 13 <| op_call 2 (f_kd 11 F_X2_must) kx_out <| op_push (.int 1) <| op_iret .int) (op_push (.int 0) <| op_iret .int)
theorem bs_X2_side_b0 : B_S M_X2_side 0 (F_X2_side_b0) z_O k_O := by
  unfold F_X2_side_b0
  refine BS_aload_n dX2_side_0 rfl ?_
  refine BS_ldcs dX2_side_1 st_X2_104 ?_
  refine BS_call (run_V dX2_side_3 con_X2_takes (ci := 1) rfl rfl q780 q782 qs11 q137 q783 pd_X2_takes ⟨Nat.le_of_ble_eq_true rfl, Nat.le_of_ble_eq_true rfl⟩) BV_no ?_
  refine BS_if_eq (tgt := 11) dX2_side_6 (by decide) ?_ ?_
  · refine BS_aload_n dX2_side_11 rfl ?_
    refine BS_ldcs dX2_side_12 st_X2_106 ?_
    refine BS_call (run_V dX2_side_14 con_X2_must (ci := 1) rfl rfl q776 q778 qs10 q137 q779 pd_X2_must ⟨Nat.le_of_ble_eq_true rfl, Nat.le_of_ble_eq_true rfl⟩) (BV_out (fun _ h => absurd h List.not_mem_nil)) ?_
    refine BS_iconst dX2_side_17 (by decide) ?_
    exact BS_ireturn dX2_side_18 rfl
  · refine BS_iconst dX2_side_9 (by decide) ?_
    exact BS_ireturn dX2_side_10 rfl
noncomputable def F_X2_side : FF := mk_F 1 F_X2_side_b0
theorem con_X2_side : Con_ yX2_side (ws_ yX2_side cX2_side 1 (some .int)) 7 164 F_X2_side := Con_of (by decide +kernel) bs_X2_side_b0
/-- LongerHalf$Reader.piece()V -/
abbrev M_X2_piece : MM := (yX2_piece, cX2_piece, none, 8, 184, 3, [])
theorem pd_X2_piece : (yX2_piece.cls ≠ "java/lang/invoke/MethodHandle" ∧ yX2_piece.cls ≠ "java/lang/invoke/VarHandle") ∧ (parseMethodDescriptor yX2_piece.desc).map (fun d => d.parameters.length) = some 0 := ⟨⟨by decide +kernel, by decide +kernel⟩, by decide +kernel⟩
noncomputable def F_X2_piece_b17 : KK OO :=
  op_call 2 (f_kd 11 F_X2_begins) kx_out <| op_ald 0 <| op_call 1 (f_kd 11 F_X2_side) kx_out <| op_ist 1 <| op_ald 0 <| op_push (.int 0) <| op_push (.int 5) <| op_call 3 (f_kd 11 F_X2_number) kx_out <| op_ist 2 <| op_ald 0 <| op_gfr [11] 30 <| op_gfr [17] 70 <| op_ald 0 <| op_gfr [11] 30 <| op_gfi [17] 82 <| op_ild 1 <| op_iast 1 .int <| op_ald 0 <| op_gfr [11] 30 <| op_gfr [17] 71 <| op_ald 0 <| op_gfr [11] 30 <| op_gfi [17] 82 <| op_ild 2 <| op_iast 1 .int <| op_ald 0 <| op_gfr [11] 30 <| op_dup <| op_gfi [17] 82 <| op_push (.int 1) <| op_i2 (fun x y => x + y) <| op_pfi .int [17] 82 <| op_vret
theorem bs_X2_piece_b17 : B_S M_X2_piece 17 (F_X2_piece_b17) z_O k_O := by
  unfold F_X2_piece_b17
  refine BS_call (run_V dX2_piece_17 con_X2_begins (ci := 1) rfl rfl q796 q798 qs14 q137 q799 pd_X2_begins ⟨Nat.le_of_ble_eq_true rfl, Nat.le_of_ble_eq_true rfl⟩) (BV_out (fun _ h => absurd h List.not_mem_nil)) ?_
  refine BS_aload_n dX2_piece_20 rfl ?_
  refine BS_call (run_V dX2_piece_21 con_X2_side (ci := 1) rfl rfl q1051 q1053 qs26 q137 q1054 pd_X2_side ⟨Nat.le_of_ble_eq_true rfl, Nat.le_of_ble_eq_true rfl⟩) (BV_out (fun _ h => absurd h List.not_mem_nil)) ?_
  refine BS_istore_n dX2_piece_24 rfl (Nat.le_of_ble_eq_true rfl) ?_
  refine BS_aload_n dX2_piece_25 rfl ?_
  refine BS_iconst dX2_piece_26 (by decide) ?_
  refine BS_iconst dX2_piece_27 (by decide) ?_
  refine BS_call (run_V dX2_piece_28 con_X2_number (ci := 1) rfl rfl q784 q786 qs12 q137 q787 pd_X2_number ⟨Nat.le_of_ble_eq_true rfl, Nat.le_of_ble_eq_true rfl⟩) (BV_out (fun _ h => absurd h List.not_mem_nil)) ?_
  refine BS_istore_n dX2_piece_31 rfl (Nat.le_of_ble_eq_true rfl) ?_
  refine BS_aload_n dX2_piece_32 rfl ?_
  refine BS_gfr f_X2_111 dX2_piece_33 ?_
  refine BS_gfr f_X2_314 dX2_piece_36 ?_
  refine BS_aload_n dX2_piece_39 rfl ?_
  refine BS_gfr f_X2_111 dX2_piece_40 ?_
  refine BS_gfi f_X2_311 dX2_piece_43 ?_
  refine BS_iload_n dX2_piece_46 rfl ?_
  refine BS_iastore dX2_piece_47 ?_
  refine BS_aload_n dX2_piece_48 rfl ?_
  refine BS_gfr f_X2_111 dX2_piece_49 ?_
  refine BS_gfr f_X2_317 dX2_piece_52 ?_
  refine BS_aload_n dX2_piece_55 rfl ?_
  refine BS_gfr f_X2_111 dX2_piece_56 ?_
  refine BS_gfi f_X2_311 dX2_piece_59 ?_
  refine BS_iload_n dX2_piece_62 rfl ?_
  refine BS_iastore dX2_piece_63 ?_
  refine BS_aload_n dX2_piece_64 rfl ?_
  refine BS_gfr f_X2_111 dX2_piece_65 ?_
  refine BS_dup dX2_piece_68 ?_
  refine BS_gfi f_X2_311 dX2_piece_69 ?_
  refine BS_iconst dX2_piece_72 (by decide) ?_
  refine BS_iadd dX2_piece_73 ?_
  refine BS_pfi p_X2_311 (fun h => by cases h) dX2_piece_74 ?_
  exact BS_return dX2_piece_77 rfl
noncomputable def F_X2_piece_b0 : KK OO :=
  op_ald 0 <| op_ald 0 <| op_gfr [11] 30 <| op_gfi [17] 82 <| op_push (.int 4) <| op_cge (op_push (.int 0) <| F_X2_piece_b17) (op_push (.int 1) <| F_X2_piece_b17)
theorem bs_X2_piece_b0 : B_S M_X2_piece 0 (F_X2_piece_b0) z_O k_O := by
  unfold F_X2_piece_b0
  refine BS_aload_n dX2_piece_0 rfl ?_
  refine BS_aload_n dX2_piece_1 rfl ?_
  refine BS_gfr f_X2_111 dX2_piece_2 ?_
  refine BS_gfi f_X2_311 dX2_piece_5 ?_
  refine BS_iconst dX2_piece_8 (by decide) ?_
  refine BS_icmp_ge (tgt := 16) dX2_piece_9 (by decide) ?_ ?_
  · refine BS_iconst dX2_piece_16 (by decide) ?_
    exact bs_X2_piece_b17
  · refine BS_iconst dX2_piece_12 (by decide) ?_
    refine BS_goto (tgt := 17) dX2_piece_13 (by decide) ?_
    exact bs_X2_piece_b17
noncomputable def F_X2_piece : FF := mk_F 3 F_X2_piece_b0
theorem con_X2_piece : Con_ yX2_piece (ws_ yX2_piece cX2_piece 3 none) 8 184 F_X2_piece := Con_of (by decide +kernel) bs_X2_piece_b0
/-- LongerHalf$Reader.won()V -/
abbrev M_X2_won : MM := (yX2_won, cX2_won, none, 8, 184, 4, [])
theorem pd_X2_won : (yX2_won.cls ≠ "java/lang/invoke/MethodHandle" ∧ yX2_won.cls ≠ "java/lang/invoke/VarHandle") ∧ (parseMethodDescriptor yX2_won.desc).map (fun d => d.parameters.length) = some 0 := ⟨⟨by decide +kernel, by decide +kernel⟩, by decide +kernel⟩
noncomputable def F_X2_won_b98 : KK OO :=
  op_i2 (fun x y => x + y) <| op_pfi .int [17] 81 <| op_ald 0 <| op_gfr [11] 30 <| op_dup <| op_gfi [17] 80 <| op_push (.int 1) <| op_i2 (fun x y => x + y) <| op_pfi .int [17] 80 <| op_vret
theorem bs_X2_won_b98 : B_S M_X2_won 98 (F_X2_won_b98) z_O k_O := by
  unfold F_X2_won_b98
  refine BS_iadd dX2_won_98 ?_
  refine BS_pfi p_X2_308 (fun h => by cases h) dX2_won_99 ?_
  refine BS_aload_n dX2_won_102 rfl ?_
  refine BS_gfr f_X2_111 dX2_won_103 ?_
  refine BS_dup dX2_won_106 ?_
  refine BS_gfi f_X2_297 dX2_won_107 ?_
  refine BS_iconst dX2_won_110 (by decide) ?_
  refine BS_iadd dX2_won_111 ?_
  refine BS_pfi p_X2_297 (fun h => by cases h) dX2_won_112 ?_
  exact BS_return dX2_won_115 rfl
noncomputable def F_X2_won_b41 : KK OO :=
  op_throw kx_out
theorem bs_X2_won_b41 : B_S M_X2_won 41 (F_X2_won_b41) z_O k_O := by
  unfold F_X2_won_b41
  exact BS_throw dX2_won_41 (BV_out (fun _ h => absurd h List.not_mem_nil))
noncomputable def F_X2_won_b18 : KK OO :=
  op_call 2 (f_kd 11 F_X2_begins) kx_out <| op_ald 0 <| op_call 1 (f_kd 11 F_X2_person) kx_out <| op_ast 1 <| op_ald 0 <| op_call 1 (f_kd 11 F_X2_personHere) kx_out <| op_ast 2 <| op_ald 1 <| op_ald 2 <| op_ane (op_ald 0 <| op_call 1 (f_kd 11 F_X2_next) kx_no <| op_ald 0 <| op_call 1 (f_kd 11 F_X2_side) kx_out <| op_ist 3 <| op_ald 1 <| op_dup <| op_gfi [21, 22, 23, 24] 92 <| op_push (.int 1) <| op_i2 (fun x y => x + y) <| op_pfi .int [21, 22, 23, 24] 92 <| op_ald 1 <| op_dup <| op_gfi [21, 22, 23, 24] 93 <| op_push (.int 1) <| op_i2 (fun x y => x + y) <| op_pfi .int [21, 22, 23, 24] 93 <| op_ald 2 <| op_dup <| op_gfi [21, 22, 23, 24] 92 <| op_push (.int 1) <| op_i2 (fun x y => x + y) <| op_pfi .int [21, 22, 23, 24] 92 <| op_ald 0 <| op_gfr [11] 30 <| op_dup <| op_gfi [17] 81 <| op_ild 3 <| op_ine (op_push (.int 0) <| F_X2_won_b98) (op_push (.int 1) <| F_X2_won_b98)) (op_ald 0 <| op_push (.int 3) <| op_call 2 (f_kd 11 F_X2_fail) kx_no <| F_X2_won_b41)
theorem bs_X2_won_b18 : B_S M_X2_won 18 (F_X2_won_b18) z_O k_O := by
  unfold F_X2_won_b18
  refine BS_call (run_V dX2_won_18 con_X2_begins (ci := 1) rfl rfl q796 q798 qs14 q137 q799 pd_X2_begins ⟨Nat.le_of_ble_eq_true rfl, Nat.le_of_ble_eq_true rfl⟩) (BV_out (fun _ h => absurd h List.not_mem_nil)) ?_
  refine BS_aload_n dX2_won_21 rfl ?_
  refine BS_call (run_V dX2_won_22 con_X2_person (ci := 1) rfl rfl q1035 q1037 qs23 q137 q1038 pd_X2_person ⟨Nat.le_of_ble_eq_true rfl, Nat.le_of_ble_eq_true rfl⟩) (BV_out (fun _ h => absurd h List.not_mem_nil)) ?_
  refine BS_astore_n dX2_won_25 rfl (Nat.le_of_ble_eq_true rfl) ?_
  refine BS_aload_n dX2_won_26 rfl ?_
  refine BS_call (run_V dX2_won_27 con_X2_personHere (ci := 1) rfl rfl q1039 q1041 qs24 q137 q1042 pd_X2_personHere ⟨Nat.le_of_ble_eq_true rfl, Nat.le_of_ble_eq_true rfl⟩) (BV_out (fun _ h => absurd h List.not_mem_nil)) ?_
  refine BS_astore_n dX2_won_30 rfl (Nat.le_of_ble_eq_true rfl) ?_
  refine BS_aload_n dX2_won_31 rfl ?_
  refine BS_aload_n dX2_won_32 rfl ?_
  refine BS_acmp_ne (tgt := 42) dX2_won_33 (by decide) ?_ ?_
  · refine BS_aload_n dX2_won_42 rfl ?_
    refine BS_call (run_V dX2_won_43 con_X2_next (ci := 1) rfl rfl q593 q595 qs4 q137 q596 pd_X2_next ⟨Nat.le_of_ble_eq_true rfl, Nat.le_of_ble_eq_true rfl⟩) BV_no ?_
    refine BS_aload_n dX2_won_46 rfl ?_
    refine BS_call (run_V dX2_won_47 con_X2_side (ci := 1) rfl rfl q1051 q1053 qs26 q137 q1054 pd_X2_side ⟨Nat.le_of_ble_eq_true rfl, Nat.le_of_ble_eq_true rfl⟩) (BV_out (fun _ h => absurd h List.not_mem_nil)) ?_
    refine BS_istore_n dX2_won_50 rfl (Nat.le_of_ble_eq_true rfl) ?_
    refine BS_aload_n dX2_won_51 rfl ?_
    refine BS_dup dX2_won_52 ?_
    refine BS_gfi f_X2_303 dX2_won_53 ?_
    refine BS_iconst dX2_won_56 (by decide) ?_
    refine BS_iadd dX2_won_57 ?_
    refine BS_pfi p_X2_303 (fun h => by cases h) dX2_won_58 ?_
    refine BS_aload_n dX2_won_61 rfl ?_
    refine BS_dup dX2_won_62 ?_
    refine BS_gfi f_X2_306 dX2_won_63 ?_
    refine BS_iconst dX2_won_66 (by decide) ?_
    refine BS_iadd dX2_won_67 ?_
    refine BS_pfi p_X2_306 (fun h => by cases h) dX2_won_68 ?_
    refine BS_aload_n dX2_won_71 rfl ?_
    refine BS_dup dX2_won_72 ?_
    refine BS_gfi f_X2_303 dX2_won_73 ?_
    refine BS_iconst dX2_won_76 (by decide) ?_
    refine BS_iadd dX2_won_77 ?_
    refine BS_pfi p_X2_303 (fun h => by cases h) dX2_won_78 ?_
    refine BS_aload_n dX2_won_81 rfl ?_
    refine BS_gfr f_X2_111 dX2_won_82 ?_
    refine BS_dup dX2_won_85 ?_
    refine BS_gfi f_X2_308 dX2_won_86 ?_
    refine BS_iload_n dX2_won_89 rfl ?_
    refine BS_if_ne (tgt := 97) dX2_won_90 (by decide) ?_ ?_
    · refine BS_iconst dX2_won_97 (by decide) ?_
      exact bs_X2_won_b98
    · refine BS_iconst dX2_won_93 (by decide) ?_
      refine BS_goto (tgt := 98) dX2_won_94 (by decide) ?_
      exact bs_X2_won_b98
  · refine BS_aload_n dX2_won_36 rfl ?_
    refine BS_iconst dX2_won_37 (by decide) ?_
    refine BS_call (run_V dX2_won_38 con_X2_fail (ci := 1) rfl rfl q691 q693 qs7 q137 q694 pd_X2_fail ⟨Nat.le_of_ble_eq_true rfl, Nat.le_of_ble_eq_true rfl⟩) BV_no ?_
    exact bs_X2_won_b41
noncomputable def F_X2_won_b0 : KK OO :=
  op_ald 0 <| op_ald 0 <| op_gfr [11] 30 <| op_gfi [17] 80 <| op_push (.int 12) <| op_cge (op_push (.int 0) <| F_X2_won_b18) (op_push (.int 1) <| F_X2_won_b18)
theorem bs_X2_won_b0 : B_S M_X2_won 0 (F_X2_won_b0) z_O k_O := by
  unfold F_X2_won_b0
  refine BS_aload_n dX2_won_0 rfl ?_
  refine BS_aload_n dX2_won_1 rfl ?_
  refine BS_gfr f_X2_111 dX2_won_2 ?_
  refine BS_gfi f_X2_297 dX2_won_5 ?_
  refine BS_bipush dX2_won_8 (by decide) ?_
  refine BS_icmp_ge (tgt := 17) dX2_won_10 (by decide) ?_ ?_
  · refine BS_iconst dX2_won_17 (by decide) ?_
    exact bs_X2_won_b18
  · refine BS_iconst dX2_won_13 (by decide) ?_
    refine BS_goto (tgt := 18) dX2_won_14 (by decide) ?_
    exact bs_X2_won_b18
noncomputable def F_X2_won : FF := mk_F 4 F_X2_won_b0
theorem con_X2_won : Con_ yX2_won (ws_ yX2_won cX2_won 4 none) 8 184 F_X2_won := Con_of (by decide +kernel) bs_X2_won_b0
/-- LongerHalf$Reader.line()V -/
abbrev M_X2_line : MM := (yX2_line, cX2_line, none, 9, 210, 3, [])
theorem pd_X2_line : (yX2_line.cls ≠ "java/lang/invoke/MethodHandle" ∧ yX2_line.cls ≠ "java/lang/invoke/VarHandle") ∧ (parseMethodDescriptor yX2_line.desc).map (fun d => d.parameters.length) = some 0 := ⟨⟨by decide +kernel, by decide +kernel⟩, by decide +kernel⟩
noncomputable def F_X2_line_b281 : KK OO :=
  op_ald 0 <| op_push (.int 1) <| op_call 2 (f_kd 11 F_X2_fail) kx_no <| op_throw kx_out
theorem bs_X2_line_b281 : B_S M_X2_line 281 (F_X2_line_b281) z_O k_O := by
  unfold F_X2_line_b281
  refine BS_aload_n dX2_line_281 rfl ?_
  refine BS_iconst dX2_line_282 (by decide) ?_
  refine BS_call (run_V dX2_line_283 con_X2_fail (ci := 1) rfl rfl q691 q693 qs7 q137 q694 pd_X2_fail ⟨Nat.le_of_ble_eq_true rfl, Nat.le_of_ble_eq_true rfl⟩) BV_no ?_
  exact BS_throw dX2_line_286 (BV_out (fun _ h => absurd h List.not_mem_nil))
noncomputable def F_X2_line_b232 : KK OO :=
  op_ald 0 <| op_call 1 (f_kd 11 F_X2_kitchenLine) kx_out <| op_vret
theorem bs_X2_line_b232 : B_S M_X2_line 232 (F_X2_line_b232) z_O k_O := by
  unfold F_X2_line_b232
  refine BS_aload_n dX2_line_232 rfl ?_
  refine BS_call (run_V dX2_line_233 con_X2_kitchenLine (ci := 1) rfl rfl q767 q769 qs8 q137 q770 pd_X2_kitchenLine ⟨Nat.le_of_ble_eq_true rfl, Nat.le_of_ble_eq_true rfl⟩) (BV_out (fun _ h => absurd h List.not_mem_nil)) ?_
  refine BS_goto (tgt := 287) dX2_line_236 (by decide) ?_
  exact BS_return dX2_line_287 rfl
noncomputable def F_X2_line_b239 : KK OO :=
  op_ald 0 <| op_call 1 (f_kd 11 F_X2_boneLine) kx_out <| op_vret
theorem bs_X2_line_b239 : B_S M_X2_line 239 (F_X2_line_b239) z_O k_O := by
  unfold F_X2_line_b239
  refine BS_aload_n dX2_line_239 rfl ?_
  refine BS_call (run_V dX2_line_240 con_X2_boneLine (ci := 1) rfl rfl q792 q794 qs13 q137 q795 pd_X2_boneLine ⟨Nat.le_of_ble_eq_true rfl, Nat.le_of_ble_eq_true rfl⟩) (BV_out (fun _ h => absurd h List.not_mem_nil)) ?_
  refine BS_goto (tgt := 287) dX2_line_243 (by decide) ?_
  exact BS_return dX2_line_287 rfl
noncomputable def F_X2_line_b246 : KK OO :=
  op_ald 0 <| op_call 1 (f_kd 11 F_X2_personLine) kx_out <| op_vret
theorem bs_X2_line_b246 : B_S M_X2_line 246 (F_X2_line_b246) z_O k_O := by
  unfold F_X2_line_b246
  refine BS_aload_n dX2_line_246 rfl ?_
  refine BS_call (run_V dX2_line_247 con_X2_personLine (ci := 1) rfl rfl q904 q906 qs20 q137 q907 pd_X2_personLine ⟨Nat.le_of_ble_eq_true rfl, Nat.le_of_ble_eq_true rfl⟩) (BV_out (fun _ h => absurd h List.not_mem_nil)) ?_
  refine BS_goto (tgt := 287) dX2_line_250 (by decide) ?_
  exact BS_return dX2_line_287 rfl
noncomputable def F_X2_line_b253 : KK OO :=
  op_ald 0 <| op_call 1 (f_kd 11 F_X2_forLine) kx_out <| op_vret
theorem bs_X2_line_b253 : B_S M_X2_line 253 (F_X2_line_b253) z_O k_O := by
  unfold F_X2_line_b253
  refine BS_aload_n dX2_line_253 rfl ?_
  refine BS_call (run_V dX2_line_254 con_X2_forLine (ci := 1) rfl rfl q1031 q1033 qs22 q137 q1034 pd_X2_forLine ⟨Nat.le_of_ble_eq_true rfl, Nat.le_of_ble_eq_true rfl⟩) (BV_out (fun _ h => absurd h List.not_mem_nil)) ?_
  refine BS_goto (tgt := 287) dX2_line_257 (by decide) ?_
  exact BS_return dX2_line_287 rfl
noncomputable def F_X2_line_b260 : KK OO :=
  op_ald 0 <| op_call 1 (f_kd 11 F_X2_won) kx_out <| op_vret
theorem bs_X2_line_b260 : B_S M_X2_line 260 (F_X2_line_b260) z_O k_O := by
  unfold F_X2_line_b260
  refine BS_aload_n dX2_line_260 rfl ?_
  refine BS_call (run_V dX2_line_261 con_X2_won (ci := 1) rfl rfl q1047 q1049 qs25 q137 q1050 pd_X2_won ⟨Nat.le_of_ble_eq_true rfl, Nat.le_of_ble_eq_true rfl⟩) (BV_out (fun _ h => absurd h List.not_mem_nil)) ?_
  refine BS_goto (tgt := 287) dX2_line_264 (by decide) ?_
  exact BS_return dX2_line_287 rfl
noncomputable def F_X2_line_b267 : KK OO :=
  op_ald 0 <| op_call 1 (f_kd 11 F_X2_piece) kx_out <| op_vret
theorem bs_X2_line_b267 : B_S M_X2_line 267 (F_X2_line_b267) z_O k_O := by
  unfold F_X2_line_b267
  refine BS_aload_n dX2_line_267 rfl ?_
  refine BS_call (run_V dX2_line_268 con_X2_piece (ci := 1) rfl rfl q1055 q1057 qs27 q137 q1058 pd_X2_piece ⟨Nat.le_of_ble_eq_true rfl, Nat.le_of_ble_eq_true rfl⟩) (BV_out (fun _ h => absurd h List.not_mem_nil)) ?_
  refine BS_goto (tgt := 287) dX2_line_271 (by decide) ?_
  exact BS_return dX2_line_287 rfl
noncomputable def F_X2_line_b274 : KK OO :=
  op_ald 0 <| op_call 1 (f_kd 11 F_X2_cheats) kx_out <| op_vret
theorem bs_X2_line_b274 : B_S M_X2_line 274 (F_X2_line_b274) z_O k_O := by
  unfold F_X2_line_b274
  refine BS_aload_n dX2_line_274 rfl ?_
  refine BS_call (run_V dX2_line_275 con_X2_cheats (ci := 1) rfl rfl q1059 q1061 qs28 q137 q1062 pd_X2_cheats ⟨Nat.le_of_ble_eq_true rfl, Nat.le_of_ble_eq_true rfl⟩) (BV_out (fun _ h => absurd h List.not_mem_nil)) ?_
  refine BS_goto (tgt := 287) dX2_line_278 (by decide) ?_
  exact BS_return dX2_line_287 rfl
noncomputable def F_X2_line_b188 : KK OO :=
  op_ild 2 <| op_sw [((0), F_X2_line_b232), ((1), F_X2_line_b239), ((2), F_X2_line_b246), ((3), F_X2_line_b253), ((4), F_X2_line_b260), ((5), F_X2_line_b267), ((6), F_X2_line_b274)] (F_X2_line_b281)
theorem bs_X2_line_b188 : B_S M_X2_line 188 (F_X2_line_b188) z_O k_O := by
  unfold F_X2_line_b188
  refine BS_iload_n dX2_line_188 rfl ?_
  refine BS_tsw dX2_line_189 (by decide) (td := 281) (by decide) ?_ ?_
  · exact bs_X2_line_b281
  · exact ⟨by decide, ⟨232, by decide, by
        exact bs_X2_line_b232⟩, ⟨by decide, ⟨239, by decide, by
        exact bs_X2_line_b239⟩, ⟨by decide, ⟨246, by decide, by
        exact bs_X2_line_b246⟩, ⟨by decide, ⟨253, by decide, by
        exact bs_X2_line_b253⟩, ⟨by decide, ⟨260, by decide, by
        exact bs_X2_line_b260⟩, ⟨by decide, ⟨267, by decide, by
        exact bs_X2_line_b267⟩, ⟨by decide, ⟨274, by decide, by
        exact bs_X2_line_b274⟩, trivial⟩⟩⟩⟩⟩⟩⟩
noncomputable def F_X2_line_b176 : KK OO :=
  op_ald 1 <| op_ldcs 11 <| op_call 2 (f_kd 27 F_J3_equals) kx_no <| op_ieq (F_X2_line_b188) (op_push (.int 6) <| op_ist 2 <| F_X2_line_b188)
theorem bs_X2_line_b176 : B_S M_X2_line 176 (F_X2_line_b176) z_O k_O := by
  unfold F_X2_line_b176
  refine BS_aload_n dX2_line_176 rfl ?_
  refine BS_ldcs dX2_line_177 st_X2_102 ?_
  refine BS_call (run_V dX2_line_179 con_J3_equals (ci := 17) rfl rfl q753 q754 q755 q148 q756 pd_J3_equals ⟨Nat.le_of_ble_eq_true rfl, Nat.le_of_ble_eq_true rfl⟩) BV_no ?_
  refine BS_if_eq (tgt := 188) dX2_line_182 (by decide) ?_ ?_
  · exact bs_X2_line_b188
  · refine BS_bipush dX2_line_185 (by decide) ?_
    refine BS_istore_n dX2_line_187 rfl (Nat.le_of_ble_eq_true rfl) ?_
    exact bs_X2_line_b188
noncomputable def F_X2_line_b120 : KK OO :=
  op_ald 1 <| op_ldcs 7 <| op_call 2 (f_kd 27 F_J3_equals) kx_no <| op_ieq (F_X2_line_b188) (op_push (.int 2) <| op_ist 2 <| F_X2_line_b188)
theorem bs_X2_line_b120 : B_S M_X2_line 120 (F_X2_line_b120) z_O k_O := by
  unfold F_X2_line_b120
  refine BS_aload_n dX2_line_120 rfl ?_
  refine BS_ldcs dX2_line_121 st_X2_94 ?_
  refine BS_call (run_V dX2_line_123 con_J3_equals (ci := 17) rfl rfl q753 q754 q755 q148 q756 pd_J3_equals ⟨Nat.le_of_ble_eq_true rfl, Nat.le_of_ble_eq_true rfl⟩) BV_no ?_
  refine BS_if_eq (tgt := 188) dX2_line_126 (by decide) ?_ ?_
  · exact bs_X2_line_b188
  · refine BS_iconst dX2_line_129 (by decide) ?_
    refine BS_istore_n dX2_line_130 rfl (Nat.le_of_ble_eq_true rfl) ?_
    refine BS_goto (tgt := 188) dX2_line_131 (by decide) ?_
    exact bs_X2_line_b188
noncomputable def F_X2_line_b92 : KK OO :=
  op_ald 1 <| op_ldcs 0 <| op_call 2 (f_kd 27 F_J3_equals) kx_no <| op_ieq (F_X2_line_b188) (op_push (.int 0) <| op_ist 2 <| F_X2_line_b188)
theorem bs_X2_line_b92 : B_S M_X2_line 92 (F_X2_line_b92) z_O k_O := by
  unfold F_X2_line_b92
  refine BS_aload_n dX2_line_92 rfl ?_
  refine BS_ldcs dX2_line_93 st_X2_90 ?_
  refine BS_call (run_V dX2_line_95 con_J3_equals (ci := 17) rfl rfl q753 q754 q755 q148 q756 pd_J3_equals ⟨Nat.le_of_ble_eq_true rfl, Nat.le_of_ble_eq_true rfl⟩) BV_no ?_
  refine BS_if_eq (tgt := 188) dX2_line_98 (by decide) ?_ ?_
  · exact bs_X2_line_b188
  · refine BS_iconst dX2_line_101 (by decide) ?_
    refine BS_istore_n dX2_line_102 rfl (Nat.le_of_ble_eq_true rfl) ?_
    refine BS_goto (tgt := 188) dX2_line_103 (by decide) ?_
    exact bs_X2_line_b188
noncomputable def F_X2_line_b134 : KK OO :=
  op_ald 1 <| op_ldcs 8 <| op_call 2 (f_kd 27 F_J3_equals) kx_no <| op_ieq (F_X2_line_b188) (op_push (.int 3) <| op_ist 2 <| F_X2_line_b188)
theorem bs_X2_line_b134 : B_S M_X2_line 134 (F_X2_line_b134) z_O k_O := by
  unfold F_X2_line_b134
  refine BS_aload_n dX2_line_134 rfl ?_
  refine BS_ldcs dX2_line_135 st_X2_96 ?_
  refine BS_call (run_V dX2_line_137 con_J3_equals (ci := 17) rfl rfl q753 q754 q755 q148 q756 pd_J3_equals ⟨Nat.le_of_ble_eq_true rfl, Nat.le_of_ble_eq_true rfl⟩) BV_no ?_
  refine BS_if_eq (tgt := 188) dX2_line_140 (by decide) ?_ ?_
  · exact bs_X2_line_b188
  · refine BS_iconst dX2_line_143 (by decide) ?_
    refine BS_istore_n dX2_line_144 rfl (Nat.le_of_ble_eq_true rfl) ?_
    refine BS_goto (tgt := 188) dX2_line_145 (by decide) ?_
    exact bs_X2_line_b188
noncomputable def F_X2_line_b148 : KK OO :=
  op_ald 1 <| op_ldcs 9 <| op_call 2 (f_kd 27 F_J3_equals) kx_no <| op_ieq (F_X2_line_b188) (op_push (.int 4) <| op_ist 2 <| F_X2_line_b188)
theorem bs_X2_line_b148 : B_S M_X2_line 148 (F_X2_line_b148) z_O k_O := by
  unfold F_X2_line_b148
  refine BS_aload_n dX2_line_148 rfl ?_
  refine BS_ldcs dX2_line_149 st_X2_98 ?_
  refine BS_call (run_V dX2_line_151 con_J3_equals (ci := 17) rfl rfl q753 q754 q755 q148 q756 pd_J3_equals ⟨Nat.le_of_ble_eq_true rfl, Nat.le_of_ble_eq_true rfl⟩) BV_no ?_
  refine BS_if_eq (tgt := 188) dX2_line_154 (by decide) ?_ ?_
  · exact bs_X2_line_b188
  · refine BS_iconst dX2_line_157 (by decide) ?_
    refine BS_istore_n dX2_line_158 rfl (Nat.le_of_ble_eq_true rfl) ?_
    refine BS_goto (tgt := 188) dX2_line_159 (by decide) ?_
    exact bs_X2_line_b188
noncomputable def F_X2_line_b106 : KK OO :=
  op_ald 1 <| op_ldcs 6 <| op_call 2 (f_kd 27 F_J3_equals) kx_no <| op_ieq (F_X2_line_b188) (op_push (.int 1) <| op_ist 2 <| F_X2_line_b188)
theorem bs_X2_line_b106 : B_S M_X2_line 106 (F_X2_line_b106) z_O k_O := by
  unfold F_X2_line_b106
  refine BS_aload_n dX2_line_106 rfl ?_
  refine BS_ldcs dX2_line_107 st_X2_92 ?_
  refine BS_call (run_V dX2_line_109 con_J3_equals (ci := 17) rfl rfl q753 q754 q755 q148 q756 pd_J3_equals ⟨Nat.le_of_ble_eq_true rfl, Nat.le_of_ble_eq_true rfl⟩) BV_no ?_
  refine BS_if_eq (tgt := 188) dX2_line_112 (by decide) ?_ ?_
  · exact bs_X2_line_b188
  · refine BS_iconst dX2_line_115 (by decide) ?_
    refine BS_istore_n dX2_line_116 rfl (Nat.le_of_ble_eq_true rfl) ?_
    refine BS_goto (tgt := 188) dX2_line_117 (by decide) ?_
    exact bs_X2_line_b188
noncomputable def F_X2_line_b162 : KK OO :=
  op_ald 1 <| op_ldcs 10 <| op_call 2 (f_kd 27 F_J3_equals) kx_no <| op_ieq (F_X2_line_b188) (op_push (.int 5) <| op_ist 2 <| F_X2_line_b188)
theorem bs_X2_line_b162 : B_S M_X2_line 162 (F_X2_line_b162) z_O k_O := by
  unfold F_X2_line_b162
  refine BS_aload_n dX2_line_162 rfl ?_
  refine BS_ldcs dX2_line_163 st_X2_100 ?_
  refine BS_call (run_V dX2_line_165 con_J3_equals (ci := 17) rfl rfl q753 q754 q755 q148 q756 pd_J3_equals ⟨Nat.le_of_ble_eq_true rfl, Nat.le_of_ble_eq_true rfl⟩) BV_no ?_
  refine BS_if_eq (tgt := 188) dX2_line_168 (by decide) ?_ ?_
  · exact bs_X2_line_b188
  · refine BS_iconst dX2_line_171 (by decide) ?_
    refine BS_istore_n dX2_line_172 rfl (Nat.le_of_ble_eq_true rfl) ?_
    refine BS_goto (tgt := 188) dX2_line_173 (by decide) ?_
    exact bs_X2_line_b188
noncomputable def F_X2_line_b0 : KK OO :=
  op_ald 0 <| op_gfi [11] 26 <| op_push (.int 2) <| op_ceq (op_ald 0 <| op_gfr [11] 29 <| op_ast 1 <| op_push (.int (-1)) <| op_ist 2 <| op_ald 1 <| op_call 1 (f_kd 27 F_J3_hashCode) kx_no <| op_sw [(((-1361529344)), F_X2_line_b176), (((-991716523)), F_X2_line_b120), (((-705112156)), F_X2_line_b92), ((101577), F_X2_line_b134), ((117910), F_X2_line_b148), ((3029700), F_X2_line_b106), ((106662638), F_X2_line_b162)] (F_X2_line_b188)) (op_ald 0 <| op_push (.int 1) <| op_call 2 (f_kd 11 F_X2_fail) kx_no <| op_throw kx_out)
theorem bs_X2_line_b0 : B_S M_X2_line 0 (F_X2_line_b0) z_O k_O := by
  unfold F_X2_line_b0
  refine BS_aload_n dX2_line_0 rfl ?_
  refine BS_gfi f_X2_47 dX2_line_1 ?_
  refine BS_iconst dX2_line_4 (by decide) ?_
  refine BS_icmp_eq (tgt := 14) dX2_line_5 (by decide) ?_ ?_
  · refine BS_aload_n dX2_line_14 rfl ?_
    refine BS_gfr f_X2_61 dX2_line_15 ?_
    refine BS_astore_n dX2_line_18 rfl (Nat.le_of_ble_eq_true rfl) ?_
    refine BS_iconst dX2_line_19 (by decide) ?_
    refine BS_istore_n dX2_line_20 rfl (Nat.le_of_ble_eq_true rfl) ?_
    refine BS_aload_n dX2_line_21 rfl ?_
    refine BS_call (run_V dX2_line_22 con_J3_hashCode (ci := 17) rfl rfl q699 q700 q701 q148 q702 pd_J3_hashCode ⟨Nat.le_of_ble_eq_true rfl, Nat.le_of_ble_eq_true rfl⟩) BV_no ?_
    refine BS_lsw dX2_line_25 (by decide) (td := 188) (by decide) ?_ ?_
    · exact bs_X2_line_b188
    · exact ⟨by decide, ⟨176, by decide, by
        exact bs_X2_line_b176⟩, ⟨by decide, ⟨120, by decide, by
        exact bs_X2_line_b120⟩, ⟨by decide, ⟨92, by decide, by
        exact bs_X2_line_b92⟩, ⟨by decide, ⟨134, by decide, by
        exact bs_X2_line_b134⟩, ⟨by decide, ⟨148, by decide, by
        exact bs_X2_line_b148⟩, ⟨by decide, ⟨106, by decide, by
        exact bs_X2_line_b106⟩, ⟨by decide, ⟨162, by decide, by
        exact bs_X2_line_b162⟩, trivial⟩⟩⟩⟩⟩⟩⟩
  · refine BS_aload_n dX2_line_8 rfl ?_
    refine BS_iconst dX2_line_9 (by decide) ?_
    refine BS_call (run_V dX2_line_10 con_X2_fail (ci := 1) rfl rfl q691 q693 qs7 q137 q694 pd_X2_fail ⟨Nat.le_of_ble_eq_true rfl, Nat.le_of_ble_eq_true rfl⟩) BV_no ?_
    exact BS_throw dX2_line_13 (BV_out (fun _ h => absurd h List.not_mem_nil))
noncomputable def F_X2_line : FF := mk_F 3 F_X2_line_b0
theorem con_X2_line : Con_ yX2_line (ws_ yX2_line cX2_line 3 none) 9 210 F_X2_line := Con_of (by decide +kernel) bs_X2_line_b0
/-- LongerHalf$Reader.read(I)LLongerHalf$Kitchen; -/
abbrev M_X2_read : MM := (yX2_read, cX2_read, (some (.object "LongerHalf$Kitchen")), 10, 232, 2, [])
theorem pd_X2_read : (yX2_read.cls ≠ "java/lang/invoke/MethodHandle" ∧ yX2_read.cls ≠ "java/lang/invoke/VarHandle") ∧ (parseMethodDescriptor yX2_read.desc).map (fun d => d.parameters.length) = some 1 := ⟨⟨by decide +kernel, by decide +kernel⟩, by decide +kernel⟩
noncomputable def F_X2_read_b93 : KK OO :=
  op_ald 0 <| op_push (.int 6) <| op_call 2 (f_kd 11 F_X2_fail) kx_no <| op_throw kx_out
theorem bs_X2_read_b93 : B_S M_X2_read 93 (F_X2_read_b93) z_O k_O := by
  unfold F_X2_read_b93
  refine BS_aload_n dX2_read_93 rfl ?_
  refine BS_bipush dX2_read_94 (by decide) ?_
  refine BS_call (run_V dX2_read_96 con_X2_fail (ci := 1) rfl rfl q691 q693 qs7 q137 q694 pd_X2_fail ⟨Nat.le_of_ble_eq_true rfl, Nat.le_of_ble_eq_true rfl⟩) BV_no ?_
  exact BS_throw dX2_read_99 (BV_out (fun _ h => absurd h List.not_mem_nil))
noncomputable def F_X2_read_l29 : KK (L_S ⊕ OO) :=
  op_ald 0 <| op_gfi [11] 26 <| op_push (.int 59) <| op_cne (op_exit <| op_ald 0 <| op_gfi [11] 26 <| op_ieq (op_ald 0 <| op_gfr [11] 30 <| op_gfi [17] 73 <| op_ieq (F_X2_read_b93) (op_ald 0 <| op_gfr [11] 30 <| op_gfi [17] 77 <| op_ieq (F_X2_read_b93) (op_ald 0 <| op_gfr [11] 30 <| op_gfi [17] 78 <| op_push (.int 2) <| op_cge (op_ald 0 <| op_gfr [11] 30 <| op_aret) (F_X2_read_b93)))) (op_ald 0 <| op_push (.int 1) <| op_call 2 (f_kd 11 F_X2_fail) kx_no <| op_throw kx_out)) (op_ald 0 <| op_call 1 (f_kd 11 F_X2_next) kx_no <| op_ald 0 <| op_call 1 (f_kd 11 F_X2_line) (kx_exit kx_out) <| op_back)
theorem bs_X2_read_l29 : B_S M_X2_read 29 (F_X2_read_l29) (z_L z_O) (k_L 29 k_O) := by
  unfold F_X2_read_l29
  refine BS_aload_n dX2_read_29 rfl ?_
  refine BS_gfi f_X2_47 dX2_read_30 ?_
  refine BS_bipush dX2_read_33 (by decide) ?_
  refine BS_icmp_ne (tgt := 49) dX2_read_35 (by decide) ?_ ?_
  · refine BS_exit ?_
    refine BS_aload_n dX2_read_49 rfl ?_
    refine BS_gfi f_X2_47 dX2_read_50 ?_
    refine BS_if_eq (tgt := 62) dX2_read_53 (by decide) ?_ ?_
    · refine BS_aload_n dX2_read_62 rfl ?_
      refine BS_gfr f_X2_111 dX2_read_63 ?_
      refine BS_gfi f_X2_134 dX2_read_66 ?_
      refine BS_if_eq (tgt := 93) dX2_read_69 (by decide) ?_ ?_
      · exact bs_X2_read_b93
      · refine BS_aload_n dX2_read_72 rfl ?_
        refine BS_gfr f_X2_111 dX2_read_73 ?_
        refine BS_gfi f_X2_141 dX2_read_76 ?_
        refine BS_if_eq (tgt := 93) dX2_read_79 (by decide) ?_ ?_
        · exact bs_X2_read_b93
        · refine BS_aload_n dX2_read_82 rfl ?_
          refine BS_gfr f_X2_111 dX2_read_83 ?_
          refine BS_gfi f_X2_144 dX2_read_86 ?_
          refine BS_iconst dX2_read_89 (by decide) ?_
          refine BS_icmp_ge (tgt := 100) dX2_read_90 (by decide) ?_ ?_
          · refine BS_aload_n dX2_read_100 rfl ?_
            refine BS_gfr f_X2_111 dX2_read_101 ?_
            exact BS_areturn dX2_read_104 rfl (Or.inl ⟨_, rfl⟩)
          · exact bs_X2_read_b93
    · refine BS_aload_n dX2_read_56 rfl ?_
      refine BS_iconst dX2_read_57 (by decide) ?_
      refine BS_call (run_V dX2_read_58 con_X2_fail (ci := 1) rfl rfl q691 q693 qs7 q137 q694 pd_X2_fail ⟨Nat.le_of_ble_eq_true rfl, Nat.le_of_ble_eq_true rfl⟩) BV_no ?_
      exact BS_throw dX2_read_61 (BV_out (fun _ h => absurd h List.not_mem_nil))
  · refine BS_aload_n dX2_read_38 rfl ?_
    refine BS_call (run_V dX2_read_39 con_X2_next (ci := 1) rfl rfl q593 q595 qs4 q137 q596 pd_X2_next ⟨Nat.le_of_ble_eq_true rfl, Nat.le_of_ble_eq_true rfl⟩) BV_no ?_
    refine BS_aload_n dX2_read_42 rfl ?_
    refine BS_call (run_V dX2_read_43 con_X2_line (ci := 1) rfl rfl q687 q689 qs6 q137 q690 pd_X2_line ⟨Nat.le_of_ble_eq_true rfl, Nat.le_of_ble_eq_true rfl⟩) (BV_exit (BV_out (fun _ h => absurd h List.not_mem_nil))) ?_
    refine BS_goto (tgt := 29) dX2_read_46 (by decide) ?_
    exact BS_back
noncomputable def F_X2_read_b29 : KK OO := op_loop (F_X2_read_l29)
theorem bs_X2_read_b29 : B_S M_X2_read 29 (F_X2_read_b29) z_O k_O := BS_loop (bs_X2_read_l29)
noncomputable def F_X2_read_b0 : KK OO :=
  op_ald 0 <| op_ild 1 <| op_pfi .int [11] 24 <| op_ald 0 <| op_push (.int 0) <| op_pfi .int [11] 25 <| op_ald 0 <| op_new 7 15 <| op_dup <| op_call 1 (f_rcv F_X9_init) kx_no <| op_pfr [11] 30 <| op_ald 0 <| op_call 1 (f_kd 11 F_X2_next) kx_no <| op_ald 0 <| op_call 1 (f_kd 11 F_X2_line) kx_out <| F_X2_read_b29
theorem bs_X2_read_b0 : B_S M_X2_read 0 (F_X2_read_b0) z_O k_O := by
  unfold F_X2_read_b0
  refine BS_aload_n dX2_read_0 rfl ?_
  refine BS_iload_n dX2_read_1 rfl ?_
  refine BS_pfi p_X2_33 (fun h => by cases h) dX2_read_2 ?_
  refine BS_aload_n dX2_read_5 rfl ?_
  refine BS_iconst dX2_read_6 (by decide) ?_
  refine BS_pfi p_X2_40 (fun h => by cases h) dX2_read_7 ?_
  refine BS_aload_n dX2_read_10 rfl ?_
  refine BS_new dX2_read_11 (ci := 7) rfl rfl q510 q511 q147 ?_
  refine BS_dup dX2_read_14 ?_
  refine BS_call (run_IN dX2_read_15 con_X9_init q512 q513 q147 q514 rfl pd_X9_init ⟨Nat.le_of_ble_eq_true rfl, Nat.le_of_ble_eq_true rfl⟩) BV_no ?_
  refine BS_pfr p_X2_111 rfl (fun h => by cases h) dX2_read_18 ?_
  refine BS_aload_n dX2_read_21 rfl ?_
  refine BS_call (run_V dX2_read_22 con_X2_next (ci := 1) rfl rfl q593 q595 qs4 q137 q596 pd_X2_next ⟨Nat.le_of_ble_eq_true rfl, Nat.le_of_ble_eq_true rfl⟩) BV_no ?_
  refine BS_aload_n dX2_read_25 rfl ?_
  refine BS_call (run_V dX2_read_26 con_X2_line (ci := 1) rfl rfl q687 q689 qs6 q137 q690 pd_X2_line ⟨Nat.le_of_ble_eq_true rfl, Nat.le_of_ble_eq_true rfl⟩) (BV_out (fun _ h => absurd h List.not_mem_nil)) ?_
  exact bs_X2_read_b29
noncomputable def F_X2_read : FF := mk_F 2 F_X2_read_b0
theorem con_X2_read : Con_ yX2_read (ws_ yX2_read cX2_read 2 (some (.object "LongerHalf$Kitchen"))) 10 232 F_X2_read := Con_of (by decide +kernel) bs_X2_read_b0
