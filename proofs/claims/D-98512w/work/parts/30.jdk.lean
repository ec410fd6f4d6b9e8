/-! printed by emit.py: the functions that the methods compute, and their contracts -/
set_option maxRecDepth 100000
/-- java/lang/Throwable.<init>(Ljava/lang/String;Ljava/lang/Throwable;ZZ)V -/
abbrev M_J0_init_2 : MM := (yJ0_init_2, cJ0_init_2, none, 1, 52, 5, [])
theorem pd_J0_init_2 : (yJ0_init_2.cls ≠ "java/lang/invoke/MethodHandle" ∧ yJ0_init_2.cls ≠ "java/lang/invoke/VarHandle") ∧ (parseMethodDescriptor yJ0_init_2.desc).map (fun d => d.parameters.length) = some 4 := ⟨⟨by decide +kernel, by decide +kernel⟩, by decide +kernel⟩
noncomputable def F_J0_init_2_b41 : KK OO :=
  op_ald 0 <| op_ald 1 <| op_pfr [12] 34 <| op_ald 0 <| op_ald 2 <| op_pfr [12] 31 <| op_ild 3 <| op_ine (op_vret) (op_ald 0 <| op_push .null <| op_pfr [12] 33 <| op_vret)
theorem bs_J0_init_2_b41 : B_S M_J0_init_2 41 (F_J0_init_2_b41) z_O k_O := by
  unfold F_J0_init_2_b41
  refine BS_aload_n dJ0_init_2_41 rfl ?_
  refine BS_aload_n dJ0_init_2_42 rfl ?_
  refine BS_pfr p_J0_31 rfl (fun h => by cases h) dJ0_init_2_43 ?_
  refine BS_aload_n dJ0_init_2_46 rfl ?_
  refine BS_aload_n dJ0_init_2_47 rfl ?_
  refine BS_pfr p_J0_7 rfl (fun h => by cases h) dJ0_init_2_48 ?_
  refine BS_iload_n dJ0_init_2_51 rfl ?_
  refine BS_if_ne (tgt := 60) dJ0_init_2_52 (by decide) ?_ ?_
  · exact BS_return dJ0_init_2_60 rfl
  · refine BS_aload_n dJ0_init_2_55 rfl ?_
    refine BS_null dJ0_init_2_56 ?_
    refine BS_pfr p_J0_24 rfl (fun h => by cases h) dJ0_init_2_57 ?_
    exact BS_return dJ0_init_2_60 rfl
noncomputable def F_J0_init_2_b0 : KK OO :=
  op_ald 0 <| op_oinit <| op_ald 0 <| op_ald 0 <| op_pfr [12] 31 <| op_ald 0 <| op_gst 0 <| op_pfr [12] 32 <| op_ald 0 <| op_gst 1 <| op_pfr [12] 33 <| op_ild 4 <| op_ieq (op_ald 0 <| op_push .null <| op_pfr [12] 32 <| F_J0_init_2_b41) (op_ald 0 <| op_stuck)
theorem bs_J0_init_2_b0 : B_S M_J0_init_2 0 (F_J0_init_2_b0) z_O k_O := by
  unfold F_J0_init_2_b0
  refine BS_aload_n dJ0_init_2_0 rfl ?_
  refine BS_oinit dJ0_init_2_1 q207 q174 q175 (Nat.le_of_ble_eq_true rfl) (Nat.le_of_ble_eq_true rfl) ?_
  refine BS_aload_n dJ0_init_2_4 rfl ?_
  refine BS_aload_n dJ0_init_2_5 rfl ?_
  refine BS_pfr p_J0_7 rfl (fun h => by cases h) dJ0_init_2_6 ?_
  refine BS_aload_n dJ0_init_2_9 rfl ?_
  refine BS_gst dJ0_init_2_10 (i := 0) rfl q208 ?_
  refine BS_pfr p_J0_17 rfl (fun h => by cases h) dJ0_init_2_13 ?_
  refine BS_aload_n dJ0_init_2_16 rfl ?_
  refine BS_gst dJ0_init_2_17 (i := 1) rfl q210 ?_
  refine BS_pfr p_J0_24 rfl (fun h => by cases h) dJ0_init_2_20 ?_
  refine BS_iload dJ0_init_2_23 ?_
  refine BS_if_eq (tgt := 36) dJ0_init_2_25 (by decide) ?_ ?_
  · refine BS_aload_n dJ0_init_2_36 rfl ?_
    refine BS_null dJ0_init_2_37 ?_
    refine BS_pfr p_J0_17 rfl (fun h => by cases h) dJ0_init_2_38 ?_
    exact bs_J0_init_2_b41
  · refine BS_aload_n dJ0_init_2_28 rfl ?_
    exact BS_stuck
noncomputable def F_J0_init_2 : FF := mk_F 5 F_J0_init_2_b0
theorem con_J0_init_2 : Con_ yJ0_init_2 (ws_ yJ0_init_2 cJ0_init_2 5 none) 1 52 F_J0_init_2 := Con_of (by decide +kernel) bs_J0_init_2_b0
/-- java/lang/Exception.<init>(Ljava/lang/String;Ljava/lang/Throwable;ZZ)V -/
abbrev M_J1_init : MM := (yJ1_init, cJ1_init, none, 2, 76, 5, [])
theorem pd_J1_init : (yJ1_init.cls ≠ "java/lang/invoke/MethodHandle" ∧ yJ1_init.cls ≠ "java/lang/invoke/VarHandle") ∧ (parseMethodDescriptor yJ1_init.desc).map (fun d => d.parameters.length) = some 4 := ⟨⟨by decide +kernel, by decide +kernel⟩, by decide +kernel⟩
noncomputable def F_J1_init_b0 : KK OO :=
  op_ald 0 <| op_ald 1 <| op_ald 2 <| op_ild 3 <| op_ild 4 <| op_call 5 (f_rcv F_J0_init_2) kx_no <| op_vret
theorem bs_J1_init_b0 : B_S M_J1_init 0 (F_J1_init_b0) z_O k_O := by
  unfold F_J1_init_b0
  refine BS_aload_n dJ1_init_0 rfl ?_
  refine BS_aload_n dJ1_init_1 rfl ?_
  refine BS_aload_n dJ1_init_2 rfl ?_
  refine BS_iload_n dJ1_init_3 rfl ?_
  refine BS_iload dJ1_init_4 ?_
  refine BS_call (run_I dJ1_init_6 con_J0_init_2 q231 q232 q138 q233 rfl pd_J0_init_2 ⟨Nat.le_of_ble_eq_true rfl, Nat.le_of_ble_eq_true rfl⟩) BV_no ?_
  exact BS_return dJ1_init_9 rfl
noncomputable def F_J1_init : FF := mk_F 5 F_J1_init_b0
theorem con_J1_init : Con_ yJ1_init (ws_ yJ1_init cJ1_init 5 none) 2 76 F_J1_init := Con_of (by decide +kernel) bs_J1_init_b0
/-- java/lang/RuntimeException.<init>(Ljava/lang/String;Ljava/lang/Throwable;ZZ)V -/
abbrev M_J2_init : MM := (yJ2_init, cJ2_init, none, 3, 100, 5, [])
theorem pd_J2_init : (yJ2_init.cls ≠ "java/lang/invoke/MethodHandle" ∧ yJ2_init.cls ≠ "java/lang/invoke/VarHandle") ∧ (parseMethodDescriptor yJ2_init.desc).map (fun d => d.parameters.length) = some 4 := ⟨⟨by decide +kernel, by decide +kernel⟩, by decide +kernel⟩
noncomputable def F_J2_init_b0 : KK OO :=
  op_ald 0 <| op_ald 1 <| op_ald 2 <| op_ild 3 <| op_ild 4 <| op_call 5 (f_rcv F_J1_init) kx_no <| op_vret
theorem bs_J2_init_b0 : B_S M_J2_init 0 (F_J2_init_b0) z_O k_O := by
  unfold F_J2_init_b0
  refine BS_aload_n dJ2_init_0 rfl ?_
  refine BS_aload_n dJ2_init_1 rfl ?_
  refine BS_aload_n dJ2_init_2 rfl ?_
  refine BS_iload_n dJ2_init_3 rfl ?_
  refine BS_iload dJ2_init_4 ?_
  refine BS_call (run_I dJ2_init_6 con_J1_init q228 q229 q139 q230 rfl pd_J1_init ⟨Nat.le_of_ble_eq_true rfl, Nat.le_of_ble_eq_true rfl⟩) BV_no ?_
  exact BS_return dJ2_init_9 rfl
noncomputable def F_J2_init : FF := mk_F 5 F_J2_init_b0
theorem con_J2_init : Con_ yJ2_init (ws_ yJ2_init cJ2_init 5 none) 3 100 F_J2_init := Con_of (by decide +kernel) bs_J2_init_b0
/-- java/lang/StringUTF16.coderFromArrayLen([BI)B -/
abbrev M_J5_coderFromArrayLen : MM := (yJ5_coderFromArrayLen, cJ5_coderFromArrayLen, (some .byte), 0, 0, 2, [])
theorem pd_J5_coderFromArrayLen : (yJ5_coderFromArrayLen.cls ≠ "java/lang/invoke/MethodHandle" ∧ yJ5_coderFromArrayLen.cls ≠ "java/lang/invoke/VarHandle") ∧ (parseMethodDescriptor yJ5_coderFromArrayLen.desc).map (fun d => d.parameters.length) = some 2 := ⟨⟨by decide +kernel, by decide +kernel⟩, by decide +kernel⟩
noncomputable def F_J5_coderFromArrayLen_b0 : KK OO :=
  op_ild 1 <| op_ald 0 <| op_alen <| op_i2 (fun x y => x - y) <| op_push (.int 31) <| op_i2 (fun x y => (x.toUInt32 >>> (y.toUInt32 &&& Int32.toUInt32 31)).toInt32) <| op_i1 (fun x => x.toInt8.toInt32) <| op_iret .byte
theorem bs_J5_coderFromArrayLen_b0 : B_S M_J5_coderFromArrayLen 0 (F_J5_coderFromArrayLen_b0) z_O k_O := by
  unfold F_J5_coderFromArrayLen_b0
  refine BS_iload_n dJ5_coderFromArrayLen_0 rfl ?_
  refine BS_aload_n dJ5_coderFromArrayLen_1 rfl ?_
  refine BS_alen dJ5_coderFromArrayLen_2 ?_
  refine BS_isub dJ5_coderFromArrayLen_3 ?_
  refine BS_bipush dJ5_coderFromArrayLen_4 (by decide) ?_
  refine BS_iushr dJ5_coderFromArrayLen_6 ?_
  refine BS_i2b dJ5_coderFromArrayLen_7 ?_
  exact BS_ireturn dJ5_coderFromArrayLen_8 rfl
noncomputable def F_J5_coderFromArrayLen : FF := mk_F 2 F_J5_coderFromArrayLen_b0
theorem con_J5_coderFromArrayLen : Con_ yJ5_coderFromArrayLen (ws_ yJ5_coderFromArrayLen cJ5_coderFromArrayLen 2 (some .byte)) 0 0 F_J5_coderFromArrayLen := Con_of (by decide +kernel) bs_J5_coderFromArrayLen_b0
/-- java/lang/StringUTF16.compress([CI[BII)I -/
abbrev M_J5_compress_2 : MM := (yJ5_compress_2, cJ5_compress_2, (some .int), 0, 0, 7, [])
theorem pd_J5_compress_2 : (yJ5_compress_2.cls ≠ "java/lang/invoke/MethodHandle" ∧ yJ5_compress_2.cls ≠ "java/lang/invoke/VarHandle") ∧ (parseMethodDescriptor yJ5_compress_2.desc).map (fun d => d.parameters.length) = some 5 := ⟨⟨by decide +kernel, by decide +kernel⟩, by decide +kernel⟩
noncomputable def F_J5_compress_2_l3 : KK (L_S ⊕ OO) :=
  op_ild 5 <| op_ild 4 <| op_cge (op_exit <| op_ild 4 <| op_iret .int) (op_ald 0 <| op_ild 1 <| op_iald 3 <| op_ist 6 <| op_ild 6 <| op_push (.int 255) <| op_cle (op_ald 2 <| op_ild 3 <| op_ild 6 <| op_i1 (fun x => x.toInt8.toInt32) <| op_iast 2 .byte <| op_iinc 1 1 <| op_iinc 3 1 <| op_iinc 5 1 <| op_back) (op_exit <| op_ild 5 <| op_iret .int))
theorem bs_J5_compress_2_l3 : B_S M_J5_compress_2 3 (F_J5_compress_2_l3) (z_L z_O) (k_L 3 k_O) := by
  unfold F_J5_compress_2_l3
  refine BS_iload dJ5_compress_2_3 ?_
  refine BS_iload dJ5_compress_2_5 ?_
  refine BS_icmp_ge (tgt := 44) dJ5_compress_2_7 (by decide) ?_ ?_
  · refine BS_exit ?_
    refine BS_iload dJ5_compress_2_44 ?_
    exact BS_ireturn dJ5_compress_2_46 rfl
  · refine BS_aload_n dJ5_compress_2_10 rfl ?_
    refine BS_iload_n dJ5_compress_2_11 rfl ?_
    refine BS_caload dJ5_compress_2_12 ?_
    refine BS_istore dJ5_compress_2_13 (Nat.le_of_ble_eq_true rfl) ?_
    refine BS_iload dJ5_compress_2_15 ?_
    refine BS_sipush dJ5_compress_2_17 (by decide) ?_
    refine BS_icmp_le (tgt := 26) dJ5_compress_2_20 (by decide) ?_ ?_
    · refine BS_aload_n dJ5_compress_2_26 rfl ?_
      refine BS_iload_n dJ5_compress_2_27 rfl ?_
      refine BS_iload dJ5_compress_2_28 ?_
      refine BS_i2b dJ5_compress_2_30 ?_
      refine BS_bastore dJ5_compress_2_31 ?_
      refine BS_iinc dJ5_compress_2_32 (by decide) (Nat.le_of_ble_eq_true rfl) ?_
      refine BS_iinc dJ5_compress_2_35 (by decide) (Nat.le_of_ble_eq_true rfl) ?_
      refine BS_iinc dJ5_compress_2_38 (by decide) (Nat.le_of_ble_eq_true rfl) ?_
      refine BS_goto (tgt := 3) dJ5_compress_2_41 (by decide) ?_
      exact BS_back
    · refine BS_exit ?_
      refine BS_iload dJ5_compress_2_23 ?_
      exact BS_ireturn dJ5_compress_2_25 rfl
noncomputable def F_J5_compress_2_b3 : KK OO := op_loop (F_J5_compress_2_l3)
theorem bs_J5_compress_2_b3 : B_S M_J5_compress_2 3 (F_J5_compress_2_b3) z_O k_O := BS_loop (bs_J5_compress_2_l3)
noncomputable def F_J5_compress_2_b0 : KK OO :=
  op_push (.int 0) <| op_ist 5 <| F_J5_compress_2_b3
theorem bs_J5_compress_2_b0 : B_S M_J5_compress_2 0 (F_J5_compress_2_b0) z_O k_O := by
  unfold F_J5_compress_2_b0
  refine BS_iconst dJ5_compress_2_0 (by decide) ?_
  refine BS_istore dJ5_compress_2_1 (Nat.le_of_ble_eq_true rfl) ?_
  exact bs_J5_compress_2_b3
noncomputable def F_J5_compress_2 : FF := mk_F 7 F_J5_compress_2_b0
theorem con_J5_compress_2 : Con_ yJ5_compress_2 (ws_ yJ5_compress_2 cJ5_compress_2 7 (some .int)) 0 0 F_J5_compress_2 := Con_of (by decide +kernel) bs_J5_compress_2_b0
/-- java/lang/StringUTF16.compress([CII)[B -/
abbrev M_J5_compress : MM := (yJ5_compress, cJ5_compress, (some (.array .byte)), 1, 26, 6, [])
theorem pd_J5_compress : (yJ5_compress.cls ≠ "java/lang/invoke/MethodHandle" ∧ yJ5_compress.cls ≠ "java/lang/invoke/VarHandle") ∧ (parseMethodDescriptor yJ5_compress.desc).map (fun d => d.parameters.length) = some 3 := ⟨⟨by decide +kernel, by decide +kernel⟩, by decide +kernel⟩
noncomputable def F_J5_compress_b0 : KK OO :=
  op_ild 2 <| op_newa 2 <| op_ast 3 <| op_ald 0 <| op_ild 1 <| op_ald 3 <| op_push (.int 0) <| op_ild 2 <| op_call 5 F_J5_compress_2 kx_no <| op_ist 4 <| op_ild 4 <| op_ild 2 <| op_ceq (op_ald 3 <| op_aret) (op_ald 0 <| op_ild 1 <| op_ild 2 <| op_stuck)
theorem bs_J5_compress_b0 : B_S M_J5_compress 0 (F_J5_compress_b0) z_O k_O := by
  unfold F_J5_compress_b0
  refine BS_iload_n dJ5_compress_0 rfl ?_
  refine BS_newarray_b dJ5_compress_1 ?_
  refine BS_astore_n dJ5_compress_3 rfl (Nat.le_of_ble_eq_true rfl) ?_
  refine BS_aload_n dJ5_compress_4 rfl ?_
  refine BS_iload_n dJ5_compress_5 rfl ?_
  refine BS_aload_n dJ5_compress_6 rfl ?_
  refine BS_iconst dJ5_compress_7 (by decide) ?_
  refine BS_iload_n dJ5_compress_8 rfl ?_
  refine BS_call (run_S dJ5_compress_9 con_J5_compress_2 q631 q632 q150 q633 pd_J5_compress_2 ⟨Nat.le_of_ble_eq_true rfl, Nat.le_of_ble_eq_true rfl⟩) BV_no ?_
  refine BS_istore dJ5_compress_12 (Nat.le_of_ble_eq_true rfl) ?_
  refine BS_iload dJ5_compress_14 ?_
  refine BS_iload_n dJ5_compress_16 rfl ?_
  refine BS_icmp_eq (tgt := 57) dJ5_compress_17 (by decide) ?_ ?_
  · refine BS_aload_n dJ5_compress_57 rfl ?_
    exact BS_areturn dJ5_compress_58 rfl (Or.inr ⟨_, rfl⟩)
  · refine BS_aload_n dJ5_compress_20 rfl ?_
    refine BS_iload_n dJ5_compress_21 rfl ?_
    refine BS_iload_n dJ5_compress_22 rfl ?_
    exact BS_stuck
noncomputable def F_J5_compress : FF := mk_F 6 F_J5_compress_b0
theorem con_J5_compress : Con_ yJ5_compress (ws_ yJ5_compress cJ5_compress 6 (some (.array .byte))) 1 26 F_J5_compress := Con_of (by decide +kernel) bs_J5_compress_b0
/-- java/lang/String.<init>([CIILjava/lang/Void;)V -/
abbrev M_J3_init_2 : MM := (yJ3_init_2, cJ3_init_2, none, 2, 52, 6, [])
theorem pd_J3_init_2 : (yJ3_init_2.cls ≠ "java/lang/invoke/MethodHandle" ∧ yJ3_init_2.cls ≠ "java/lang/invoke/VarHandle") ∧ (parseMethodDescriptor yJ3_init_2.desc).map (fun d => d.parameters.length) = some 4 := ⟨⟨by decide +kernel, by decide +kernel⟩, by decide +kernel⟩
noncomputable def F_J3_init_2_b0 : KK OO :=
  op_ald 0 <| op_oinit <| op_ild 3 <| op_ine (op_push (.int 1) <| op_ieq (op_ald 0 <| op_push (.int 1) <| op_pfi .byte [27] 171 <| op_ald 0 <| op_ald 1 <| op_ild 2 <| op_ild 3 <| op_stuck) (op_ald 1 <| op_ild 2 <| op_ild 3 <| op_call 3 F_J5_compress kx_no <| op_ast 5 <| op_ald 0 <| op_ald 5 <| op_ild 3 <| op_call 2 F_J5_coderFromArrayLen kx_no <| op_pfi .byte [27] 171 <| op_ald 0 <| op_ald 5 <| op_pfr [27] 170 <| op_vret)) (op_ald 0 <| op_ldcs 26 <| op_gfr [27] 170 <| op_pfr [27] 170 <| op_ald 0 <| op_ldcs 26 <| op_gfi [27] 171 <| op_pfi .byte [27] 171 <| op_vret)
theorem bs_J3_init_2_b0 : B_S M_J3_init_2 0 (F_J3_init_2_b0) z_O k_O := by
  unfold F_J3_init_2_b0
  refine BS_aload_n dJ3_init_2_0 rfl ?_
  refine BS_oinit dJ3_init_2_1 q624 q174 q175 (Nat.le_of_ble_eq_true rfl) (Nat.le_of_ble_eq_true rfl) ?_
  refine BS_iload_n dJ3_init_2_4 rfl ?_
  refine BS_if_ne (tgt := 27) dJ3_init_2_5 (by decide) ?_ ?_
  · refine BS_gsi dJ3_init_2_27 (List.mem_of_getElem? (i := 0) rfl) q626 ?_
    refine BS_if_eq (tgt := 58) dJ3_init_2_30 (by decide) ?_ ?_
    · refine BS_aload_n dJ3_init_2_58 rfl ?_
      refine BS_iconst dJ3_init_2_59 (by decide) ?_
      refine BS_pfi p_J3_15 (fun _ => rfl) dJ3_init_2_60 ?_
      refine BS_aload_n dJ3_init_2_63 rfl ?_
      refine BS_aload_n dJ3_init_2_64 rfl ?_
      refine BS_iload_n dJ3_init_2_65 rfl ?_
      refine BS_iload_n dJ3_init_2_66 rfl ?_
      exact BS_stuck
    · refine BS_aload_n dJ3_init_2_33 rfl ?_
      refine BS_iload_n dJ3_init_2_34 rfl ?_
      refine BS_iload_n dJ3_init_2_35 rfl ?_
      refine BS_call (run_S dJ3_init_2_36 con_J5_compress q628 q629 q150 q630 pd_J5_compress ⟨Nat.le_of_ble_eq_true rfl, Nat.le_of_ble_eq_true rfl⟩) BV_no ?_
      refine BS_astore dJ3_init_2_39 (Nat.le_of_ble_eq_true rfl) ?_
      refine BS_aload_n dJ3_init_2_41 rfl ?_
      refine BS_aload dJ3_init_2_42 ?_
      refine BS_iload_n dJ3_init_2_44 rfl ?_
      refine BS_call (run_S dJ3_init_2_45 con_J5_coderFromArrayLen q666 q667 q150 q668 pd_J5_coderFromArrayLen ⟨Nat.le_of_ble_eq_true rfl, Nat.le_of_ble_eq_true rfl⟩) BV_no ?_
      refine BS_pfi p_J3_15 (fun _ => rfl) dJ3_init_2_48 ?_
      refine BS_aload_n dJ3_init_2_51 rfl ?_
      refine BS_aload dJ3_init_2_52 ?_
      refine BS_pfr p_J3_9 rfl (fun _ => rfl) dJ3_init_2_54 ?_
      exact BS_return dJ3_init_2_57 rfl
  · refine BS_aload_n dJ3_init_2_8 rfl ?_
    refine BS_ldcs dJ3_init_2_9 st_J3_7 ?_
    refine BS_gfr f_J3_9 dJ3_init_2_11 ?_
    refine BS_pfr p_J3_9 rfl (fun _ => rfl) dJ3_init_2_14 ?_
    refine BS_aload_n dJ3_init_2_17 rfl ?_
    refine BS_ldcs dJ3_init_2_18 st_J3_7 ?_
    refine BS_gfi f_J3_15 dJ3_init_2_20 ?_
    refine BS_pfi p_J3_15 (fun _ => rfl) dJ3_init_2_23 ?_
    exact BS_return dJ3_init_2_26 rfl
noncomputable def F_J3_init_2 : FF := mk_F 6 F_J3_init_2_b0
theorem con_J3_init_2 : Con_ yJ3_init_2 (ws_ yJ3_init_2 cJ3_init_2 6 none) 2 52 F_J3_init_2 := Con_of (by decide +kernel) bs_J3_init_2_b0
/-- jdk/internal/util/Preconditions.checkFromIndexSize(IIILjava/util/function/BiFunction;)I -/
abbrev M_J4_checkFromIndexSize : MM := (yJ4_checkFromIndexSize, cJ4_checkFromIndexSize, (some .int), 0, 0, 4, [])
theorem pd_J4_checkFromIndexSize : (yJ4_checkFromIndexSize.cls ≠ "java/lang/invoke/MethodHandle" ∧ yJ4_checkFromIndexSize.cls ≠ "java/lang/invoke/VarHandle") ∧ (parseMethodDescriptor yJ4_checkFromIndexSize.desc).map (fun d => d.parameters.length) = some 4 := ⟨⟨by decide +kernel, by decide +kernel⟩, by decide +kernel⟩
noncomputable def F_J4_checkFromIndexSize_b15 : KK OO :=
  op_ald 3 <| op_ild 0 <| op_ild 1 <| op_ild 2 <| op_stuck
theorem bs_J4_checkFromIndexSize_b15 : B_S M_J4_checkFromIndexSize 15 (F_J4_checkFromIndexSize_b15) z_O k_O := by
  unfold F_J4_checkFromIndexSize_b15
  refine BS_aload_n dJ4_checkFromIndexSize_15 rfl ?_
  refine BS_iload_n dJ4_checkFromIndexSize_16 rfl ?_
  refine BS_iload_n dJ4_checkFromIndexSize_17 rfl ?_
  refine BS_iload_n dJ4_checkFromIndexSize_18 rfl ?_
  exact BS_stuck
noncomputable def F_J4_checkFromIndexSize_b0 : KK OO :=
  op_ild 2 <| op_ild 0 <| op_i2 (fun x y => x ||| y) <| op_ild 1 <| op_i2 (fun x y => x ||| y) <| op_ilt (F_J4_checkFromIndexSize_b15) (op_ild 1 <| op_ild 2 <| op_ild 0 <| op_i2 (fun x y => x - y) <| op_cle (op_ild 0 <| op_iret .int) (F_J4_checkFromIndexSize_b15))
theorem bs_J4_checkFromIndexSize_b0 : B_S M_J4_checkFromIndexSize 0 (F_J4_checkFromIndexSize_b0) z_O k_O := by
  unfold F_J4_checkFromIndexSize_b0
  refine BS_iload_n dJ4_checkFromIndexSize_0 rfl ?_
  refine BS_iload_n dJ4_checkFromIndexSize_1 rfl ?_
  refine BS_ior dJ4_checkFromIndexSize_2 ?_
  refine BS_iload_n dJ4_checkFromIndexSize_3 rfl ?_
  refine BS_ior dJ4_checkFromIndexSize_4 ?_
  refine BS_if_lt (tgt := 15) dJ4_checkFromIndexSize_5 (by decide) ?_ ?_
  · exact bs_J4_checkFromIndexSize_b15
  · refine BS_iload_n dJ4_checkFromIndexSize_8 rfl ?_
    refine BS_iload_n dJ4_checkFromIndexSize_9 rfl ?_
    refine BS_iload_n dJ4_checkFromIndexSize_10 rfl ?_
    refine BS_isub dJ4_checkFromIndexSize_11 ?_
    refine BS_icmp_le (tgt := 23) dJ4_checkFromIndexSize_12 (by decide) ?_ ?_
    · refine BS_iload_n dJ4_checkFromIndexSize_23 rfl ?_
      exact BS_ireturn dJ4_checkFromIndexSize_24 rfl
    · exact bs_J4_checkFromIndexSize_b15
noncomputable def F_J4_checkFromIndexSize : FF := mk_F 4 F_J4_checkFromIndexSize_b0
theorem con_J4_checkFromIndexSize : Con_ yJ4_checkFromIndexSize (ws_ yJ4_checkFromIndexSize cJ4_checkFromIndexSize 4 (some .int)) 0 0 F_J4_checkFromIndexSize := Con_of (by decide +kernel) bs_J4_checkFromIndexSize_b0
/-- java/lang/String.checkBoundsOffCount(III)I -/
abbrev M_J3_checkBoundsOffCount : MM := (yJ3_checkBoundsOffCount, cJ3_checkBoundsOffCount, (some .int), 1, 23, 3, [])
theorem pd_J3_checkBoundsOffCount : (yJ3_checkBoundsOffCount.cls ≠ "java/lang/invoke/MethodHandle" ∧ yJ3_checkBoundsOffCount.cls ≠ "java/lang/invoke/VarHandle") ∧ (parseMethodDescriptor yJ3_checkBoundsOffCount.desc).map (fun d => d.parameters.length) = some 3 := ⟨⟨by decide +kernel, by decide +kernel⟩, by decide +kernel⟩
noncomputable def F_J3_checkBoundsOffCount_b0 : KK OO :=
  op_ild 0 <| op_ild 1 <| op_ild 2 <| op_gst 2 <| op_call 4 F_J4_checkFromIndexSize kx_no <| op_iret .int
theorem bs_J3_checkBoundsOffCount_b0 : B_S M_J3_checkBoundsOffCount 0 (F_J3_checkBoundsOffCount_b0) z_O k_O := by
  unfold F_J3_checkBoundsOffCount_b0
  refine BS_iload_n dJ3_checkBoundsOffCount_0 rfl ?_
  refine BS_iload_n dJ3_checkBoundsOffCount_1 rfl ?_
  refine BS_iload_n dJ3_checkBoundsOffCount_2 rfl ?_
  refine BS_gst dJ3_checkBoundsOffCount_3 (i := 2) rfl q616 ?_
  refine BS_call (run_S dJ3_checkBoundsOffCount_6 con_J4_checkFromIndexSize q618 q619 q149 q620 pd_J4_checkFromIndexSize ⟨Nat.le_of_ble_eq_true rfl, Nat.le_of_ble_eq_true rfl⟩) BV_no ?_
  exact BS_ireturn dJ3_checkBoundsOffCount_9 rfl
noncomputable def F_J3_checkBoundsOffCount : FF := mk_F 3 F_J3_checkBoundsOffCount_b0
theorem con_J3_checkBoundsOffCount : Con_ yJ3_checkBoundsOffCount (ws_ yJ3_checkBoundsOffCount cJ3_checkBoundsOffCount 3 (some .int)) 1 23 F_J3_checkBoundsOffCount := Con_of (by decide +kernel) bs_J3_checkBoundsOffCount_b0
/-- java/lang/String.rangeCheck([CII)Ljava/lang/Void; -/
abbrev M_J3_rangeCheck : MM := (yJ3_rangeCheck, cJ3_rangeCheck, (some (.object "java/lang/Void")), 2, 45, 3, [])
theorem pd_J3_rangeCheck : (yJ3_rangeCheck.cls ≠ "java/lang/invoke/MethodHandle" ∧ yJ3_rangeCheck.cls ≠ "java/lang/invoke/VarHandle") ∧ (parseMethodDescriptor yJ3_rangeCheck.desc).map (fun d => d.parameters.length) = some 3 := ⟨⟨by decide +kernel, by decide +kernel⟩, by decide +kernel⟩
noncomputable def F_J3_rangeCheck_b0 : KK OO :=
  op_ild 1 <| op_ild 2 <| op_ald 0 <| op_alen <| op_call 3 F_J3_checkBoundsOffCount kx_no <| op_pop <| op_push .null <| op_aret
theorem bs_J3_rangeCheck_b0 : B_S M_J3_rangeCheck 0 (F_J3_rangeCheck_b0) z_O k_O := by
  unfold F_J3_rangeCheck_b0
  refine BS_iload_n dJ3_rangeCheck_0 rfl ?_
  refine BS_iload_n dJ3_rangeCheck_1 rfl ?_
  refine BS_aload_n dJ3_rangeCheck_2 rfl ?_
  refine BS_alen dJ3_rangeCheck_3 ?_
  refine BS_call (run_S dJ3_rangeCheck_4 con_J3_checkBoundsOffCount q613 q614 q148 q615 pd_J3_checkBoundsOffCount ⟨Nat.le_of_ble_eq_true rfl, Nat.le_of_ble_eq_true rfl⟩) BV_no ?_
  refine BS_pop dJ3_rangeCheck_7 ?_
  refine BS_null dJ3_rangeCheck_8 ?_
  exact BS_areturn dJ3_rangeCheck_9 rfl (Or.inl ⟨_, rfl⟩)
noncomputable def F_J3_rangeCheck : FF := mk_F 3 F_J3_rangeCheck_b0
theorem con_J3_rangeCheck : Con_ yJ3_rangeCheck (ws_ yJ3_rangeCheck cJ3_rangeCheck 3 (some (.object "java/lang/Void"))) 2 45 F_J3_rangeCheck := Con_of (by decide +kernel) bs_J3_rangeCheck_b0
/-- java/lang/String.<init>([CII)V -/
abbrev M_J3_init : MM := (yJ3_init, cJ3_init, none, 3, 77, 4, [])
theorem pd_J3_init : (yJ3_init.cls ≠ "java/lang/invoke/MethodHandle" ∧ yJ3_init.cls ≠ "java/lang/invoke/VarHandle") ∧ (parseMethodDescriptor yJ3_init.desc).map (fun d => d.parameters.length) = some 3 := ⟨⟨by decide +kernel, by decide +kernel⟩, by decide +kernel⟩
noncomputable def F_J3_init_b0 : KK OO :=
  op_ald 0 <| op_ald 1 <| op_ild 2 <| op_ild 3 <| op_ald 1 <| op_ild 2 <| op_ild 3 <| op_call 3 F_J3_rangeCheck kx_no <| op_call 5 (f_rcv F_J3_init_2) kx_no <| op_vret
theorem bs_J3_init_b0 : B_S M_J3_init 0 (F_J3_init_b0) z_O k_O := by
  unfold F_J3_init_b0
  refine BS_aload_n dJ3_init_0 rfl ?_
  refine BS_aload_n dJ3_init_1 rfl ?_
  refine BS_iload_n dJ3_init_2 rfl ?_
  refine BS_iload_n dJ3_init_3 rfl ?_
  refine BS_aload_n dJ3_init_4 rfl ?_
  refine BS_iload_n dJ3_init_5 rfl ?_
  refine BS_iload_n dJ3_init_6 rfl ?_
  refine BS_call (run_S dJ3_init_7 con_J3_rangeCheck q610 q611 q148 q612 pd_J3_rangeCheck ⟨Nat.le_of_ble_eq_true rfl, Nat.le_of_ble_eq_true rfl⟩) BV_no ?_
  refine BS_call (run_I dJ3_init_10 con_J3_init_2 q621 q622 q148 q623 rfl pd_J3_init_2 ⟨Nat.le_of_ble_eq_true rfl, Nat.le_of_ble_eq_true rfl⟩) BV_no ?_
  exact BS_return dJ3_init_13 rfl
noncomputable def F_J3_init : FF := mk_F 4 F_J3_init_b0
theorem con_J3_init : Con_ yJ3_init (ws_ yJ3_init cJ3_init 4 none) 3 77 F_J3_init := Con_of (by decide +kernel) bs_J3_init_b0
/-- java/lang/String.isLatin1()Z -/
abbrev M_J3_isLatin1 : MM := (yJ3_isLatin1, cJ3_isLatin1, (some .boolean), 0, 0, 1, [])
theorem pd_J3_isLatin1 : (yJ3_isLatin1.cls ≠ "java/lang/invoke/MethodHandle" ∧ yJ3_isLatin1.cls ≠ "java/lang/invoke/VarHandle") ∧ (parseMethodDescriptor yJ3_isLatin1.desc).map (fun d => d.parameters.length) = some 0 := ⟨⟨by decide +kernel, by decide +kernel⟩, by decide +kernel⟩
noncomputable def F_J3_isLatin1_b0 : KK OO :=
  op_push (.int 1) <| op_ieq (op_push (.int 0) <| op_iret .boolean) (op_ald 0 <| op_gfi [27] 171 <| op_ine (op_push (.int 0) <| op_iret .boolean) (op_push (.int 1) <| op_iret .boolean))
theorem bs_J3_isLatin1_b0 : B_S M_J3_isLatin1 0 (F_J3_isLatin1_b0) z_O k_O := by
  unfold F_J3_isLatin1_b0
  refine BS_gsi dJ3_isLatin1_0 (List.mem_of_getElem? (i := 0) rfl) q626 ?_
  refine BS_if_eq (tgt := 17) dJ3_isLatin1_3 (by decide) ?_ ?_
  · refine BS_iconst dJ3_isLatin1_17 (by decide) ?_
    exact BS_ireturn dJ3_isLatin1_18 rfl
  · refine BS_aload_n dJ3_isLatin1_6 rfl ?_
    refine BS_gfi f_J3_15 dJ3_isLatin1_7 ?_
    refine BS_if_ne (tgt := 17) dJ3_isLatin1_10 (by decide) ?_ ?_
    · refine BS_iconst dJ3_isLatin1_17 (by decide) ?_
      exact BS_ireturn dJ3_isLatin1_18 rfl
    · refine BS_iconst dJ3_isLatin1_13 (by decide) ?_
      refine BS_goto (tgt := 18) dJ3_isLatin1_14 (by decide) ?_
      exact BS_ireturn dJ3_isLatin1_18 rfl
noncomputable def F_J3_isLatin1 : FF := mk_F 1 F_J3_isLatin1_b0
theorem con_J3_isLatin1 : Con_ yJ3_isLatin1 (ws_ yJ3_isLatin1 cJ3_isLatin1 1 (some .boolean)) 0 0 F_J3_isLatin1 := Con_of (by decide +kernel) bs_J3_isLatin1_b0
/-- jdk/internal/util/ArraysSupport.signedHashCode(I[BII)I -/
abbrev M_J7_signedHashCode : MM := (yJ7_signedHashCode, cJ7_signedHashCode, (some .int), 0, 0, 6, [])
theorem pd_J7_signedHashCode : (yJ7_signedHashCode.cls ≠ "java/lang/invoke/MethodHandle" ∧ yJ7_signedHashCode.cls ≠ "java/lang/invoke/VarHandle") ∧ (parseMethodDescriptor yJ7_signedHashCode.desc).map (fun d => d.parameters.length) = some 4 := ⟨⟨by decide +kernel, by decide +kernel⟩, by decide +kernel⟩
noncomputable def F_J7_signedHashCode_l8 : KK (L_S ⊕ OO) :=
  op_ild 5 <| op_ild 4 <| op_cge (op_exit <| op_ild 0 <| op_iret .int) (op_push (.int 31) <| op_ild 0 <| op_i2 (fun x y => x * y) <| op_ald 1 <| op_ild 5 <| op_iald 2 <| op_push (.int 255) <| op_i2 (fun x y => x &&& y) <| op_i2 (fun x y => x + y) <| op_ist 0 <| op_iinc 5 1 <| op_back)
theorem bs_J7_signedHashCode_l8 : B_S M_J7_signedHashCode 8 (F_J7_signedHashCode_l8) (z_L z_O) (k_L 8 k_O) := by
  unfold F_J7_signedHashCode_l8
  refine BS_iload dJ7_signedHashCode_8 ?_
  refine BS_iload dJ7_signedHashCode_10 ?_
  refine BS_icmp_ge (tgt := 35) dJ7_signedHashCode_12 (by decide) ?_ ?_
  · refine BS_exit ?_
    refine BS_iload_n dJ7_signedHashCode_35 rfl ?_
    exact BS_ireturn dJ7_signedHashCode_36 rfl
  · refine BS_bipush dJ7_signedHashCode_15 (by decide) ?_
    refine BS_iload_n dJ7_signedHashCode_17 rfl ?_
    refine BS_imul dJ7_signedHashCode_18 ?_
    refine BS_aload_n dJ7_signedHashCode_19 rfl ?_
    refine BS_iload dJ7_signedHashCode_20 ?_
    refine BS_baload dJ7_signedHashCode_22 ?_
    refine BS_sipush dJ7_signedHashCode_23 (by decide) ?_
    refine BS_iand dJ7_signedHashCode_26 ?_
    refine BS_iadd dJ7_signedHashCode_27 ?_
    refine BS_istore_n dJ7_signedHashCode_28 rfl (Nat.le_of_ble_eq_true rfl) ?_
    refine BS_iinc dJ7_signedHashCode_29 (by decide) (Nat.le_of_ble_eq_true rfl) ?_
    refine BS_goto (tgt := 8) dJ7_signedHashCode_32 (by decide) ?_
    exact BS_back
noncomputable def F_J7_signedHashCode_b8 : KK OO := op_loop (F_J7_signedHashCode_l8)
theorem bs_J7_signedHashCode_b8 : B_S M_J7_signedHashCode 8 (F_J7_signedHashCode_b8) z_O k_O := BS_loop (bs_J7_signedHashCode_l8)
noncomputable def F_J7_signedHashCode_b0 : KK OO :=
  op_ild 2 <| op_ild 3 <| op_i2 (fun x y => x + y) <| op_ist 4 <| op_ild 2 <| op_ist 5 <| F_J7_signedHashCode_b8
theorem bs_J7_signedHashCode_b0 : B_S M_J7_signedHashCode 0 (F_J7_signedHashCode_b0) z_O k_O := by
  unfold F_J7_signedHashCode_b0
  refine BS_iload_n dJ7_signedHashCode_0 rfl ?_
  refine BS_iload_n dJ7_signedHashCode_1 rfl ?_
  refine BS_iadd dJ7_signedHashCode_2 ?_
  refine BS_istore dJ7_signedHashCode_3 (Nat.le_of_ble_eq_true rfl) ?_
  refine BS_iload_n dJ7_signedHashCode_5 rfl ?_
  refine BS_istore dJ7_signedHashCode_6 (Nat.le_of_ble_eq_true rfl) ?_
  exact bs_J7_signedHashCode_b8
noncomputable def F_J7_signedHashCode : FF := mk_F 6 F_J7_signedHashCode_b0
theorem con_J7_signedHashCode : Con_ yJ7_signedHashCode (ws_ yJ7_signedHashCode cJ7_signedHashCode 6 (some .int)) 0 0 F_J7_signedHashCode := Con_of (by decide +kernel) bs_J7_signedHashCode_b0
/-- jdk/internal/util/ArraysSupport.vectorizedHashCode(Ljava/lang/Object;IIII)I -/
abbrev M_J7_vectorizedHashCode : MM := (yJ7_vectorizedHashCode, cJ7_vectorizedHashCode, (some .int), 1, 25, 5, [])
theorem pd_J7_vectorizedHashCode : (yJ7_vectorizedHashCode.cls ≠ "java/lang/invoke/MethodHandle" ∧ yJ7_vectorizedHashCode.cls ≠ "java/lang/invoke/VarHandle") ∧ (parseMethodDescriptor yJ7_vectorizedHashCode.desc).map (fun d => d.parameters.length) = some 5 := ⟨⟨by decide +kernel, by decide +kernel⟩, by decide +kernel⟩
noncomputable def F_J7_vectorizedHashCode_b129 : KK OO :=
  op_stuck
theorem bs_J7_vectorizedHashCode_b129 : B_S M_J7_vectorizedHashCode 129 (F_J7_vectorizedHashCode_b129) z_O k_O := by
  unfold F_J7_vectorizedHashCode_b129
  exact BS_stuck
noncomputable def F_J7_vectorizedHashCode_b44 : KK OO :=
  op_ild 3 <| op_ald 0 <| op_cast [2] <| op_ild 1 <| op_ild 2 <| op_call 4 F_J7_signedHashCode kx_no <| op_iret .int
theorem bs_J7_vectorizedHashCode_b44 : B_S M_J7_vectorizedHashCode 44 (F_J7_vectorizedHashCode_b44) z_O k_O := by
  unfold F_J7_vectorizedHashCode_b44
  refine BS_iload_n dJ7_vectorizedHashCode_44 rfl ?_
  refine BS_aload_n dJ7_vectorizedHashCode_45 rfl ?_
  refine BS_castB dJ7_vectorizedHashCode_46 q713 ?_
  refine BS_iload_n dJ7_vectorizedHashCode_49 rfl ?_
  refine BS_iload_n dJ7_vectorizedHashCode_50 rfl ?_
  refine BS_call (run_S dJ7_vectorizedHashCode_51 con_J7_signedHashCode q714 q715 q152 q716 pd_J7_signedHashCode ⟨Nat.le_of_ble_eq_true rfl, Nat.le_of_ble_eq_true rfl⟩) BV_no ?_
  refine BS_goto (tgt := 157) dJ7_vectorizedHashCode_54 (by decide) ?_
  exact BS_ireturn dJ7_vectorizedHashCode_157 rfl
noncomputable def F_J7_vectorizedHashCode_b57 : KK OO :=
  op_ald 0 <| op_stuck
theorem bs_J7_vectorizedHashCode_b57 : B_S M_J7_vectorizedHashCode 57 (F_J7_vectorizedHashCode_b57) z_O k_O := by
  unfold F_J7_vectorizedHashCode_b57
  refine BS_aload_n dJ7_vectorizedHashCode_57 rfl ?_
  exact BS_stuck
noncomputable def F_J7_vectorizedHashCode_b90 : KK OO :=
  op_ild 3 <| op_ald 0 <| op_cast [2] <| op_ild 1 <| op_ild 2 <| op_stuck
theorem bs_J7_vectorizedHashCode_b90 : B_S M_J7_vectorizedHashCode 90 (F_J7_vectorizedHashCode_b90) z_O k_O := by
  unfold F_J7_vectorizedHashCode_b90
  refine BS_iload_n dJ7_vectorizedHashCode_90 rfl ?_
  refine BS_aload_n dJ7_vectorizedHashCode_91 rfl ?_
  refine BS_castB dJ7_vectorizedHashCode_92 q713 ?_
  refine BS_iload_n dJ7_vectorizedHashCode_95 rfl ?_
  refine BS_iload_n dJ7_vectorizedHashCode_96 rfl ?_
  exact BS_stuck
noncomputable def F_J7_vectorizedHashCode_b103 : KK OO :=
  op_ild 3 <| op_ald 0 <| op_stuck
theorem bs_J7_vectorizedHashCode_b103 : B_S M_J7_vectorizedHashCode 103 (F_J7_vectorizedHashCode_b103) z_O k_O := by
  unfold F_J7_vectorizedHashCode_b103
  refine BS_iload_n dJ7_vectorizedHashCode_103 rfl ?_
  refine BS_aload_n dJ7_vectorizedHashCode_104 rfl ?_
  exact BS_stuck
noncomputable def F_J7_vectorizedHashCode_b116 : KK OO :=
  op_ild 3 <| op_ald 0 <| op_stuck
theorem bs_J7_vectorizedHashCode_b116 : B_S M_J7_vectorizedHashCode 116 (F_J7_vectorizedHashCode_b116) z_O k_O := by
  unfold F_J7_vectorizedHashCode_b116
  refine BS_iload_n dJ7_vectorizedHashCode_116 rfl ?_
  refine BS_aload_n dJ7_vectorizedHashCode_117 rfl ?_
  exact BS_stuck
noncomputable def F_J7_vectorizedHashCode_b0 : KK OO :=
  op_ild 4 <| op_sw [((4), F_J7_vectorizedHashCode_b44), ((5), F_J7_vectorizedHashCode_b57), ((6), F_J7_vectorizedHashCode_b129), ((7), F_J7_vectorizedHashCode_b129), ((8), F_J7_vectorizedHashCode_b90), ((9), F_J7_vectorizedHashCode_b103), ((10), F_J7_vectorizedHashCode_b116)] (F_J7_vectorizedHashCode_b129)
theorem bs_J7_vectorizedHashCode_b0 : B_S M_J7_vectorizedHashCode 0 (F_J7_vectorizedHashCode_b0) z_O k_O := by
  unfold F_J7_vectorizedHashCode_b0
  refine BS_iload dJ7_vectorizedHashCode_0 ?_
  refine BS_tsw dJ7_vectorizedHashCode_2 (by decide) (td := 129) (by decide) ?_ ?_
  · exact bs_J7_vectorizedHashCode_b129
  · exact ⟨by decide, ⟨44, by decide, by
        exact bs_J7_vectorizedHashCode_b44⟩, ⟨by decide, ⟨57, by decide, by
        exact bs_J7_vectorizedHashCode_b57⟩, ⟨by decide, ⟨129, by decide, by
        exact bs_J7_vectorizedHashCode_b129⟩, ⟨by decide, ⟨129, by decide, by
        exact bs_J7_vectorizedHashCode_b129⟩, ⟨by decide, ⟨90, by decide, by
        exact bs_J7_vectorizedHashCode_b90⟩, ⟨by decide, ⟨103, by decide, by
        exact bs_J7_vectorizedHashCode_b103⟩, ⟨by decide, ⟨116, by decide, by
        exact bs_J7_vectorizedHashCode_b116⟩, trivial⟩⟩⟩⟩⟩⟩⟩
noncomputable def F_J7_vectorizedHashCode : FF := mk_F 5 F_J7_vectorizedHashCode_b0
theorem con_J7_vectorizedHashCode : Con_ yJ7_vectorizedHashCode (ws_ yJ7_vectorizedHashCode cJ7_vectorizedHashCode 5 (some .int)) 1 25 F_J7_vectorizedHashCode := Con_of (by decide +kernel) bs_J7_vectorizedHashCode_b0
/-- java/lang/StringLatin1.hashCode([B)I -/
abbrev M_J6_hashCode : MM := (yJ6_hashCode, cJ6_hashCode, (some .int), 2, 49, 1, [])
theorem pd_J6_hashCode : (yJ6_hashCode.cls ≠ "java/lang/invoke/MethodHandle" ∧ yJ6_hashCode.cls ≠ "java/lang/invoke/VarHandle") ∧ (parseMethodDescriptor yJ6_hashCode.desc).map (fun d => d.parameters.length) = some 1 := ⟨⟨by decide +kernel, by decide +kernel⟩, by decide +kernel⟩
noncomputable def F_J6_hashCode_b42 : KK OO :=
  op_ald 0 <| op_push (.int 0) <| op_ald 0 <| op_alen <| op_push (.int 0) <| op_push (.int 4) <| op_call 5 F_J7_vectorizedHashCode kx_no <| op_iret .int
theorem bs_J6_hashCode_b42 : B_S M_J6_hashCode 42 (F_J6_hashCode_b42) z_O k_O := by
  unfold F_J6_hashCode_b42
  refine BS_aload_n dJ6_hashCode_42 rfl ?_
  refine BS_iconst dJ6_hashCode_43 (by decide) ?_
  refine BS_aload_n dJ6_hashCode_44 rfl ?_
  refine BS_alen dJ6_hashCode_45 ?_
  refine BS_iconst dJ6_hashCode_46 (by decide) ?_
  refine BS_iconst dJ6_hashCode_47 (by decide) ?_
  refine BS_call (run_S dJ6_hashCode_48 con_J7_vectorizedHashCode q710 q711 q152 q712 pd_J7_vectorizedHashCode ⟨Nat.le_of_ble_eq_true rfl, Nat.le_of_ble_eq_true rfl⟩) BV_no ?_
  exact BS_ireturn dJ6_hashCode_51 rfl
noncomputable def F_J6_hashCode_b28 : KK OO :=
  op_push (.int 0) <| op_iret .int
theorem bs_J6_hashCode_b28 : B_S M_J6_hashCode 28 (F_J6_hashCode_b28) z_O k_O := by
  unfold F_J6_hashCode_b28
  refine BS_iconst dJ6_hashCode_28 (by decide) ?_
  refine BS_goto (tgt := 51) dJ6_hashCode_29 (by decide) ?_
  exact BS_ireturn dJ6_hashCode_51 rfl
noncomputable def F_J6_hashCode_b32 : KK OO :=
  op_ald 0 <| op_push (.int 0) <| op_iald 2 <| op_push (.int 255) <| op_i2 (fun x y => x &&& y) <| op_iret .int
theorem bs_J6_hashCode_b32 : B_S M_J6_hashCode 32 (F_J6_hashCode_b32) z_O k_O := by
  unfold F_J6_hashCode_b32
  refine BS_aload_n dJ6_hashCode_32 rfl ?_
  refine BS_iconst dJ6_hashCode_33 (by decide) ?_
  refine BS_baload dJ6_hashCode_34 ?_
  refine BS_sipush dJ6_hashCode_35 (by decide) ?_
  refine BS_iand dJ6_hashCode_38 ?_
  refine BS_goto (tgt := 51) dJ6_hashCode_39 (by decide) ?_
  exact BS_ireturn dJ6_hashCode_51 rfl
noncomputable def F_J6_hashCode_b0 : KK OO :=
  op_ald 0 <| op_alen <| op_sw [((0), F_J6_hashCode_b28), ((1), F_J6_hashCode_b32)] (F_J6_hashCode_b42)
theorem bs_J6_hashCode_b0 : B_S M_J6_hashCode 0 (F_J6_hashCode_b0) z_O k_O := by
  unfold F_J6_hashCode_b0
  refine BS_aload_n dJ6_hashCode_0 rfl ?_
  refine BS_alen dJ6_hashCode_1 ?_
  refine BS_lsw dJ6_hashCode_2 (by decide) (td := 42) (by decide) ?_ ?_
  · exact bs_J6_hashCode_b42
  · exact ⟨by decide, ⟨28, by decide, by
        exact bs_J6_hashCode_b28⟩, ⟨by decide, ⟨32, by decide, by
        exact bs_J6_hashCode_b32⟩, trivial⟩⟩
noncomputable def F_J6_hashCode : FF := mk_F 1 F_J6_hashCode_b0
theorem con_J6_hashCode : Con_ yJ6_hashCode (ws_ yJ6_hashCode cJ6_hashCode 1 (some .int)) 2 49 F_J6_hashCode := Con_of (by decide +kernel) bs_J6_hashCode_b0
/-- java/lang/String.hashCode()I -/
abbrev M_J3_hashCode : MM := (yJ3_hashCode, cJ3_hashCode, (some .int), 3, 69, 2, [])
theorem pd_J3_hashCode : (yJ3_hashCode.cls ≠ "java/lang/invoke/MethodHandle" ∧ yJ3_hashCode.cls ≠ "java/lang/invoke/VarHandle") ∧ (parseMethodDescriptor yJ3_hashCode.desc).map (fun d => d.parameters.length) = some 0 := ⟨⟨by decide +kernel, by decide +kernel⟩, by decide +kernel⟩
noncomputable def F_J3_hashCode_b40 : KK OO :=
  op_ist 1 <| op_ild 1 <| op_ine (op_ald 0 <| op_ild 1 <| op_pfi .int [27] 172 <| op_ild 1 <| op_iret .int) (op_ald 0 <| op_push (.int 1) <| op_pfi .boolean [27] 173 <| op_ild 1 <| op_iret .int)
theorem bs_J3_hashCode_b40 : B_S M_J3_hashCode 40 (F_J3_hashCode_b40) z_O k_O := by
  unfold F_J3_hashCode_b40
  refine BS_istore_n dJ3_hashCode_40 rfl (Nat.le_of_ble_eq_true rfl) ?_
  refine BS_iload_n dJ3_hashCode_41 rfl ?_
  refine BS_if_ne (tgt := 53) dJ3_hashCode_42 (by decide) ?_ ?_
  · refine BS_aload_n dJ3_hashCode_53 rfl ?_
    refine BS_iload_n dJ3_hashCode_54 rfl ?_
    refine BS_pfi p_J3_19 (fun h => by cases h) dJ3_hashCode_55 ?_
    refine BS_iload_n dJ3_hashCode_58 rfl ?_
    exact BS_ireturn dJ3_hashCode_59 rfl
  · refine BS_aload_n dJ3_hashCode_45 rfl ?_
    refine BS_iconst dJ3_hashCode_46 (by decide) ?_
    refine BS_pfi p_J3_23 (fun h => by cases h) dJ3_hashCode_47 ?_
    refine BS_goto (tgt := 58) dJ3_hashCode_50 (by decide) ?_
    refine BS_iload_n dJ3_hashCode_58 rfl ?_
    exact BS_ireturn dJ3_hashCode_59 rfl
noncomputable def F_J3_hashCode_b0 : KK OO :=
  op_ald 0 <| op_gfi [27] 172 <| op_ist 1 <| op_ild 1 <| op_ine (op_ild 1 <| op_iret .int) (op_ald 0 <| op_gfi [27] 173 <| op_ine (op_ild 1 <| op_iret .int) (op_ald 0 <| op_call 1 (f_kd 27 F_J3_isLatin1) kx_no <| op_ieq (op_ald 0 <| op_gfr [27] 170 <| op_stuck) (op_ald 0 <| op_gfr [27] 170 <| op_call 1 F_J6_hashCode kx_no <| F_J3_hashCode_b40)))
theorem bs_J3_hashCode_b0 : B_S M_J3_hashCode 0 (F_J3_hashCode_b0) z_O k_O := by
  unfold F_J3_hashCode_b0
  refine BS_aload_n dJ3_hashCode_0 rfl ?_
  refine BS_gfi f_J3_19 dJ3_hashCode_1 ?_
  refine BS_istore_n dJ3_hashCode_4 rfl (Nat.le_of_ble_eq_true rfl) ?_
  refine BS_iload_n dJ3_hashCode_5 rfl ?_
  refine BS_if_ne (tgt := 58) dJ3_hashCode_6 (by decide) ?_ ?_
  · refine BS_iload_n dJ3_hashCode_58 rfl ?_
    exact BS_ireturn dJ3_hashCode_59 rfl
  · refine BS_aload_n dJ3_hashCode_9 rfl ?_
    refine BS_gfi f_J3_23 dJ3_hashCode_10 ?_
    refine BS_if_ne (tgt := 58) dJ3_hashCode_13 (by decide) ?_ ?_
    · refine BS_iload_n dJ3_hashCode_58 rfl ?_
      exact BS_ireturn dJ3_hashCode_59 rfl
    · refine BS_aload_n dJ3_hashCode_16 rfl ?_
      refine BS_call (run_V dJ3_hashCode_17 con_J3_isLatin1 (ci := 17) rfl rfl q703 q704 q705 q148 q706 pd_J3_isLatin1 ⟨Nat.le_of_ble_eq_true rfl, Nat.le_of_ble_eq_true rfl⟩) BV_no ?_
      refine BS_if_eq (tgt := 33) dJ3_hashCode_20 (by decide) ?_ ?_
      · refine BS_aload_n dJ3_hashCode_33 rfl ?_
        refine BS_gfr f_J3_9 dJ3_hashCode_34 ?_
        exact BS_stuck
      · refine BS_aload_n dJ3_hashCode_23 rfl ?_
        refine BS_gfr f_J3_9 dJ3_hashCode_24 ?_
        refine BS_call (run_S dJ3_hashCode_27 con_J6_hashCode q707 q708 q151 q709 pd_J6_hashCode ⟨Nat.le_of_ble_eq_true rfl, Nat.le_of_ble_eq_true rfl⟩) BV_no ?_
        refine BS_goto (tgt := 40) dJ3_hashCode_30 (by decide) ?_
        exact bs_J3_hashCode_b40
noncomputable def F_J3_hashCode : FF := mk_F 2 F_J3_hashCode_b0
theorem con_J3_hashCode : Con_ yJ3_hashCode (ws_ yJ3_hashCode cJ3_hashCode 2 (some .int)) 3 69 F_J3_hashCode := Con_of (by decide +kernel) bs_J3_hashCode_b0
/-- java/lang/StringLatin1.equals([B[B)Z -/
abbrev M_J6_equals : MM := (yJ6_equals, cJ6_equals, (some .boolean), 0, 0, 3, [])
theorem pd_J6_equals : (yJ6_equals.cls ≠ "java/lang/invoke/MethodHandle" ∧ yJ6_equals.cls ≠ "java/lang/invoke/VarHandle") ∧ (parseMethodDescriptor yJ6_equals.desc).map (fun d => d.parameters.length) = some 2 := ⟨⟨by decide +kernel, by decide +kernel⟩, by decide +kernel⟩
noncomputable def F_J6_equals_l9 : KK (L_S ⊕ OO) :=
  op_ild 2 <| op_ald 0 <| op_alen <| op_cge (op_exit <| op_push (.int 1) <| op_iret .boolean) (op_ald 0 <| op_ild 2 <| op_iald 2 <| op_ald 1 <| op_ild 2 <| op_iald 2 <| op_ceq (op_iinc 2 1 <| op_back) (op_exit <| op_push (.int 0) <| op_iret .boolean))
theorem bs_J6_equals_l9 : B_S M_J6_equals 9 (F_J6_equals_l9) (z_L z_O) (k_L 9 k_O) := by
  unfold F_J6_equals_l9
  refine BS_iload_n dJ6_equals_9 rfl ?_
  refine BS_aload_n dJ6_equals_10 rfl ?_
  refine BS_alen dJ6_equals_11 ?_
  refine BS_icmp_ge (tgt := 32) dJ6_equals_12 (by decide) ?_ ?_
  · refine BS_exit ?_
    refine BS_iconst dJ6_equals_32 (by decide) ?_
    exact BS_ireturn dJ6_equals_33 rfl
  · refine BS_aload_n dJ6_equals_15 rfl ?_
    refine BS_iload_n dJ6_equals_16 rfl ?_
    refine BS_baload dJ6_equals_17 ?_
    refine BS_aload_n dJ6_equals_18 rfl ?_
    refine BS_iload_n dJ6_equals_19 rfl ?_
    refine BS_baload dJ6_equals_20 ?_
    refine BS_icmp_eq (tgt := 26) dJ6_equals_21 (by decide) ?_ ?_
    · refine BS_iinc dJ6_equals_26 (by decide) (Nat.le_of_ble_eq_true rfl) ?_
      refine BS_goto (tgt := 9) dJ6_equals_29 (by decide) ?_
      exact BS_back
    · refine BS_exit ?_
      refine BS_iconst dJ6_equals_24 (by decide) ?_
      exact BS_ireturn dJ6_equals_25 rfl
noncomputable def F_J6_equals_b9 : KK OO := op_loop (F_J6_equals_l9)
theorem bs_J6_equals_b9 : B_S M_J6_equals 9 (F_J6_equals_b9) z_O k_O := BS_loop (bs_J6_equals_l9)
noncomputable def F_J6_equals_b0 : KK OO :=
  op_ald 0 <| op_alen <| op_ald 1 <| op_alen <| op_cne (op_push (.int 0) <| op_iret .boolean) (op_push (.int 0) <| op_ist 2 <| F_J6_equals_b9)
theorem bs_J6_equals_b0 : B_S M_J6_equals 0 (F_J6_equals_b0) z_O k_O := by
  unfold F_J6_equals_b0
  refine BS_aload_n dJ6_equals_0 rfl ?_
  refine BS_alen dJ6_equals_1 ?_
  refine BS_aload_n dJ6_equals_2 rfl ?_
  refine BS_alen dJ6_equals_3 ?_
  refine BS_icmp_ne (tgt := 34) dJ6_equals_4 (by decide) ?_ ?_
  · refine BS_iconst dJ6_equals_34 (by decide) ?_
    exact BS_ireturn dJ6_equals_35 rfl
  · refine BS_iconst dJ6_equals_7 (by decide) ?_
    refine BS_istore_n dJ6_equals_8 rfl (Nat.le_of_ble_eq_true rfl) ?_
    exact bs_J6_equals_b9
noncomputable def F_J6_equals : FF := mk_F 3 F_J6_equals_b0
theorem con_J6_equals : Con_ yJ6_equals (ws_ yJ6_equals cJ6_equals 3 (some .boolean)) 0 0 F_J6_equals := Con_of (by decide +kernel) bs_J6_equals_b0
/-- java/lang/String.equals(Ljava/lang/Object;)Z -/
abbrev M_J3_equals : MM := (yJ3_equals, cJ3_equals, (some .boolean), 1, 22, 3, [])
theorem pd_J3_equals : (yJ3_equals.cls ≠ "java/lang/invoke/MethodHandle" ∧ yJ3_equals.cls ≠ "java/lang/invoke/VarHandle") ∧ (parseMethodDescriptor yJ3_equals.desc).map (fun d => d.parameters.length) = some 1 := ⟨⟨by decide +kernel, by decide +kernel⟩, by decide +kernel⟩
noncomputable def F_J3_equals_b36 : KK OO :=
  op_ald 0 <| op_gfr [27] 170 <| op_ald 2 <| op_gfr [27] 170 <| op_call 2 F_J6_equals kx_no <| op_ieq (op_push (.int 0) <| op_iret .boolean) (op_push (.int 1) <| op_iret .boolean)
theorem bs_J3_equals_b36 : B_S M_J3_equals 36 (F_J3_equals_b36) z_O k_O := by
  unfold F_J3_equals_b36
  refine BS_aload_n dJ3_equals_36 rfl ?_
  refine BS_gfr f_J3_9 dJ3_equals_37 ?_
  refine BS_aload_n dJ3_equals_40 rfl ?_
  refine BS_gfr f_J3_9 dJ3_equals_41 ?_
  refine BS_call (run_S dJ3_equals_44 con_J6_equals q758 q759 q151 q760 pd_J6_equals ⟨Nat.le_of_ble_eq_true rfl, Nat.le_of_ble_eq_true rfl⟩) BV_no ?_
  refine BS_if_eq (tgt := 54) dJ3_equals_47 (by decide) ?_ ?_
  · refine BS_iconst dJ3_equals_54 (by decide) ?_
    exact BS_ireturn dJ3_equals_55 rfl
  · refine BS_iconst dJ3_equals_50 (by decide) ?_
    refine BS_goto (tgt := 55) dJ3_equals_51 (by decide) ?_
    exact BS_ireturn dJ3_equals_55 rfl
noncomputable def F_J3_equals_b0 : KK OO :=
  op_ald 0 <| op_ald 1 <| op_ane (op_ald 1 <| op_inst [27] [] <| op_ieq (op_push (.int 0) <| op_iret .boolean) (op_ald 1 <| op_cast [27] <| op_ast 2 <| op_push (.int 1) <| op_ieq (F_J3_equals_b36) (op_ald 0 <| op_gfi [27] 171 <| op_ald 2 <| op_gfi [27] 171 <| op_cne (op_push (.int 0) <| op_iret .boolean) (F_J3_equals_b36)))) (op_push (.int 1) <| op_iret .boolean)
theorem bs_J3_equals_b0 : B_S M_J3_equals 0 (F_J3_equals_b0) z_O k_O := by
  unfold F_J3_equals_b0
  refine BS_aload_n dJ3_equals_0 rfl ?_
  refine BS_aload_n dJ3_equals_1 rfl ?_
  refine BS_acmp_ne (tgt := 7) dJ3_equals_2 (by decide) ?_ ?_
  · refine BS_aload_n dJ3_equals_7 rfl ?_
    refine BS_inst dJ3_equals_8 q757 ti_String ao_S (fun _ h => absurd h List.not_mem_nil) ?_
    refine BS_if_eq (tgt := 54) dJ3_equals_11 (by decide) ?_ ?_
    · refine BS_iconst dJ3_equals_54 (by decide) ?_
      exact BS_ireturn dJ3_equals_55 rfl
    · refine BS_aload_n dJ3_equals_14 rfl ?_
      refine BS_cast dJ3_equals_15 q757 ti_String ao_S ?_
      refine BS_astore_n dJ3_equals_18 rfl (Nat.le_of_ble_eq_true rfl) ?_
      refine BS_gsi dJ3_equals_19 (List.mem_of_getElem? (i := 0) rfl) q626 ?_
      refine BS_if_eq (tgt := 36) dJ3_equals_22 (by decide) ?_ ?_
      · exact bs_J3_equals_b36
      · refine BS_aload_n dJ3_equals_25 rfl ?_
        refine BS_gfi f_J3_15 dJ3_equals_26 ?_
        refine BS_aload_n dJ3_equals_29 rfl ?_
        refine BS_gfi f_J3_15 dJ3_equals_30 ?_
        refine BS_icmp_ne (tgt := 54) dJ3_equals_33 (by decide) ?_ ?_
        · refine BS_iconst dJ3_equals_54 (by decide) ?_
          exact BS_ireturn dJ3_equals_55 rfl
        · exact bs_J3_equals_b36
  · refine BS_iconst dJ3_equals_5 (by decide) ?_
    exact BS_ireturn dJ3_equals_6 rfl
noncomputable def F_J3_equals : FF := mk_F 3 F_J3_equals_b0
theorem con_J3_equals : Con_ yJ3_equals (ws_ yJ3_equals cJ3_equals 3 (some .boolean)) 1 22 F_J3_equals := Con_of (by decide +kernel) bs_J3_equals_b0
/-- java/lang/String.coder()B -/
abbrev M_J3_coder : MM := (yJ3_coder, cJ3_coder, (some .byte), 0, 0, 1, [])
theorem pd_J3_coder : (yJ3_coder.cls ≠ "java/lang/invoke/MethodHandle" ∧ yJ3_coder.cls ≠ "java/lang/invoke/VarHandle") ∧ (parseMethodDescriptor yJ3_coder.desc).map (fun d => d.parameters.length) = some 0 := ⟨⟨by decide +kernel, by decide +kernel⟩, by decide +kernel⟩
noncomputable def F_J3_coder_b0 : KK OO :=
  op_push (.int 1) <| op_ieq (op_push (.int 1) <| op_iret .byte) (op_ald 0 <| op_gfi [27] 171 <| op_iret .byte)
theorem bs_J3_coder_b0 : B_S M_J3_coder 0 (F_J3_coder_b0) z_O k_O := by
  unfold F_J3_coder_b0
  refine BS_gsi dJ3_coder_0 (List.mem_of_getElem? (i := 0) rfl) q626 ?_
  refine BS_if_eq (tgt := 13) dJ3_coder_3 (by decide) ?_ ?_
  · refine BS_iconst dJ3_coder_13 (by decide) ?_
    exact BS_ireturn dJ3_coder_14 rfl
  · refine BS_aload_n dJ3_coder_6 rfl ?_
    refine BS_gfi f_J3_15 dJ3_coder_7 ?_
    refine BS_goto (tgt := 14) dJ3_coder_10 (by decide) ?_
    exact BS_ireturn dJ3_coder_14 rfl
noncomputable def F_J3_coder : FF := mk_F 1 F_J3_coder_b0
theorem con_J3_coder : Con_ yJ3_coder (ws_ yJ3_coder cJ3_coder 1 (some .byte)) 0 0 F_J3_coder := Con_of (by decide +kernel) bs_J3_coder_b0
/-- java/lang/String.length()I -/
abbrev M_J3_length : MM := (yJ3_length, cJ3_length, (some .int), 1, 20, 1, [])
theorem pd_J3_length : (yJ3_length.cls ≠ "java/lang/invoke/MethodHandle" ∧ yJ3_length.cls ≠ "java/lang/invoke/VarHandle") ∧ (parseMethodDescriptor yJ3_length.desc).map (fun d => d.parameters.length) = some 0 := ⟨⟨by decide +kernel, by decide +kernel⟩, by decide +kernel⟩
noncomputable def F_J3_length_b0 : KK OO :=
  op_ald 0 <| op_gfr [27] 170 <| op_alen <| op_ald 0 <| op_call 1 (f_kd 27 F_J3_coder) kx_no <| op_i2 (fun x y => x >>> (y &&& 31)) <| op_iret .int
theorem bs_J3_length_b0 : B_S M_J3_length 0 (F_J3_length_b0) z_O k_O := by
  unfold F_J3_length_b0
  refine BS_aload_n dJ3_length_0 rfl ?_
  refine BS_gfr f_J3_9 dJ3_length_1 ?_
  refine BS_alen dJ3_length_4 ?_
  refine BS_aload_n dJ3_length_5 rfl ?_
  refine BS_call (run_V dJ3_length_6 con_J3_coder (ci := 17) rfl rfl q1916 q1917 q1918 q148 q1919 pd_J3_coder ⟨Nat.le_of_ble_eq_true rfl, Nat.le_of_ble_eq_true rfl⟩) BV_no ?_
  refine BS_ishr dJ3_length_9 ?_
  exact BS_ireturn dJ3_length_10 rfl
noncomputable def F_J3_length : FF := mk_F 1 F_J3_length_b0
theorem con_J3_length : Con_ yJ3_length (ws_ yJ3_length cJ3_length 1 (some .int)) 1 20 F_J3_length := Con_of (by decide +kernel) bs_J3_length_b0
/-- jdk/internal/util/Preconditions.checkIndex(IILjava/util/function/BiFunction;)I -/
abbrev M_J4_checkIndex : MM := (yJ4_checkIndex, cJ4_checkIndex, (some .int), 0, 0, 3, [])
theorem pd_J4_checkIndex : (yJ4_checkIndex.cls ≠ "java/lang/invoke/MethodHandle" ∧ yJ4_checkIndex.cls ≠ "java/lang/invoke/VarHandle") ∧ (parseMethodDescriptor yJ4_checkIndex.desc).map (fun d => d.parameters.length) = some 3 := ⟨⟨by decide +kernel, by decide +kernel⟩, by decide +kernel⟩
noncomputable def F_J4_checkIndex_b9 : KK OO :=
  op_ald 2 <| op_ild 0 <| op_ild 1 <| op_stuck
theorem bs_J4_checkIndex_b9 : B_S M_J4_checkIndex 9 (F_J4_checkIndex_b9) z_O k_O := by
  unfold F_J4_checkIndex_b9
  refine BS_aload_n dJ4_checkIndex_9 rfl ?_
  refine BS_iload_n dJ4_checkIndex_10 rfl ?_
  refine BS_iload_n dJ4_checkIndex_11 rfl ?_
  exact BS_stuck
noncomputable def F_J4_checkIndex_b0 : KK OO :=
  op_ild 0 <| op_ilt (F_J4_checkIndex_b9) (op_ild 0 <| op_ild 1 <| op_clt (op_ild 0 <| op_iret .int) (F_J4_checkIndex_b9))
theorem bs_J4_checkIndex_b0 : B_S M_J4_checkIndex 0 (F_J4_checkIndex_b0) z_O k_O := by
  unfold F_J4_checkIndex_b0
  refine BS_iload_n dJ4_checkIndex_0 rfl ?_
  refine BS_if_lt (tgt := 9) dJ4_checkIndex_1 (by decide) ?_ ?_
  · exact bs_J4_checkIndex_b9
  · refine BS_iload_n dJ4_checkIndex_4 rfl ?_
    refine BS_iload_n dJ4_checkIndex_5 rfl ?_
    refine BS_icmp_lt (tgt := 16) dJ4_checkIndex_6 (by decide) ?_ ?_
    · refine BS_iload_n dJ4_checkIndex_16 rfl ?_
      exact BS_ireturn dJ4_checkIndex_17 rfl
    · exact bs_J4_checkIndex_b9
noncomputable def F_J4_checkIndex : FF := mk_F 3 F_J4_checkIndex_b0
theorem con_J4_checkIndex : Con_ yJ4_checkIndex (ws_ yJ4_checkIndex cJ4_checkIndex 3 (some .int)) 0 0 F_J4_checkIndex := Con_of (by decide +kernel) bs_J4_checkIndex_b0
/-- java/lang/String.checkIndex(II)V -/
abbrev M_J3_checkIndex : MM := (yJ3_checkIndex, cJ3_checkIndex, none, 1, 22, 2, [])
theorem pd_J3_checkIndex : (yJ3_checkIndex.cls ≠ "java/lang/invoke/MethodHandle" ∧ yJ3_checkIndex.cls ≠ "java/lang/invoke/VarHandle") ∧ (parseMethodDescriptor yJ3_checkIndex.desc).map (fun d => d.parameters.length) = some 2 := ⟨⟨by decide +kernel, by decide +kernel⟩, by decide +kernel⟩
noncomputable def F_J3_checkIndex_b0 : KK OO :=
  op_ild 0 <| op_ild 1 <| op_gst 2 <| op_call 3 F_J4_checkIndex kx_no <| op_pop <| op_vret
theorem bs_J3_checkIndex_b0 : B_S M_J3_checkIndex 0 (F_J3_checkIndex_b0) z_O k_O := by
  unfold F_J3_checkIndex_b0
  refine BS_iload_n dJ3_checkIndex_0 rfl ?_
  refine BS_iload_n dJ3_checkIndex_1 rfl ?_
  refine BS_gst dJ3_checkIndex_2 (i := 2) rfl q616 ?_
  refine BS_call (run_S dJ3_checkIndex_5 con_J4_checkIndex q1930 q1931 q149 q1932 pd_J4_checkIndex ⟨Nat.le_of_ble_eq_true rfl, Nat.le_of_ble_eq_true rfl⟩) BV_no ?_
  refine BS_pop dJ3_checkIndex_8 ?_
  exact BS_return dJ3_checkIndex_9 rfl
noncomputable def F_J3_checkIndex : FF := mk_F 2 F_J3_checkIndex_b0
theorem con_J3_checkIndex : Con_ yJ3_checkIndex (ws_ yJ3_checkIndex cJ3_checkIndex 2 none) 1 22 F_J3_checkIndex := Con_of (by decide +kernel) bs_J3_checkIndex_b0
/-- java/lang/StringLatin1.charAt([BI)C -/
abbrev M_J6_charAt : MM := (yJ6_charAt, cJ6_charAt, (some .char), 2, 43, 2, [])
theorem pd_J6_charAt : (yJ6_charAt.cls ≠ "java/lang/invoke/MethodHandle" ∧ yJ6_charAt.cls ≠ "java/lang/invoke/VarHandle") ∧ (parseMethodDescriptor yJ6_charAt.desc).map (fun d => d.parameters.length) = some 2 := ⟨⟨by decide +kernel, by decide +kernel⟩, by decide +kernel⟩
noncomputable def F_J6_charAt_b0 : KK OO :=
  op_ild 1 <| op_ald 0 <| op_alen <| op_call 2 F_J3_checkIndex kx_no <| op_ald 0 <| op_ild 1 <| op_iald 2 <| op_push (.int 255) <| op_i2 (fun x y => x &&& y) <| op_i1 (fun x => (x.toUInt32 % 65536).toInt32) <| op_iret .char
theorem bs_J6_charAt_b0 : B_S M_J6_charAt 0 (F_J6_charAt_b0) z_O k_O := by
  unfold F_J6_charAt_b0
  refine BS_iload_n dJ6_charAt_0 rfl ?_
  refine BS_aload_n dJ6_charAt_1 rfl ?_
  refine BS_alen dJ6_charAt_2 ?_
  refine BS_call (run_S dJ6_charAt_3 con_J3_checkIndex q1927 q1928 q148 q1929 pd_J3_checkIndex ⟨Nat.le_of_ble_eq_true rfl, Nat.le_of_ble_eq_true rfl⟩) BV_no ?_
  refine BS_aload_n dJ6_charAt_6 rfl ?_
  refine BS_iload_n dJ6_charAt_7 rfl ?_
  refine BS_baload dJ6_charAt_8 ?_
  refine BS_sipush dJ6_charAt_9 (by decide) ?_
  refine BS_iand dJ6_charAt_12 ?_
  refine BS_i2c dJ6_charAt_13 ?_
  exact BS_ireturn dJ6_charAt_14 rfl
noncomputable def F_J6_charAt : FF := mk_F 2 F_J6_charAt_b0
theorem con_J6_charAt : Con_ yJ6_charAt (ws_ yJ6_charAt cJ6_charAt 2 (some .char)) 2 43 F_J6_charAt := Con_of (by decide +kernel) bs_J6_charAt_b0
/-- java/lang/String.charAt(I)C -/
abbrev M_J3_charAt : MM := (yJ3_charAt, cJ3_charAt, (some .char), 3, 64, 2, [])
theorem pd_J3_charAt : (yJ3_charAt.cls ≠ "java/lang/invoke/MethodHandle" ∧ yJ3_charAt.cls ≠ "java/lang/invoke/VarHandle") ∧ (parseMethodDescriptor yJ3_charAt.desc).map (fun d => d.parameters.length) = some 1 := ⟨⟨by decide +kernel, by decide +kernel⟩, by decide +kernel⟩
noncomputable def F_J3_charAt_b0 : KK OO :=
  op_ald 0 <| op_call 1 (f_kd 27 F_J3_isLatin1) kx_no <| op_ieq (op_ald 0 <| op_gfr [27] 170 <| op_ild 1 <| op_stuck) (op_ald 0 <| op_gfr [27] 170 <| op_ild 1 <| op_call 2 F_J6_charAt kx_no <| op_iret .char)
theorem bs_J3_charAt_b0 : B_S M_J3_charAt 0 (F_J3_charAt_b0) z_O k_O := by
  unfold F_J3_charAt_b0
  refine BS_aload_n dJ3_charAt_0 rfl ?_
  refine BS_call (run_V dJ3_charAt_1 con_J3_isLatin1 (ci := 17) rfl rfl q703 q704 q705 q148 q706 pd_J3_isLatin1 ⟨Nat.le_of_ble_eq_true rfl, Nat.le_of_ble_eq_true rfl⟩) BV_no ?_
  refine BS_if_eq (tgt := 16) dJ3_charAt_4 (by decide) ?_ ?_
  · refine BS_aload_n dJ3_charAt_16 rfl ?_
    refine BS_gfr f_J3_9 dJ3_charAt_17 ?_
    refine BS_iload_n dJ3_charAt_20 rfl ?_
    exact BS_stuck
  · refine BS_aload_n dJ3_charAt_7 rfl ?_
    refine BS_gfr f_J3_9 dJ3_charAt_8 ?_
    refine BS_iload_n dJ3_charAt_11 rfl ?_
    refine BS_call (run_S dJ3_charAt_12 con_J6_charAt q1924 q1925 q151 q1926 pd_J6_charAt ⟨Nat.le_of_ble_eq_true rfl, Nat.le_of_ble_eq_true rfl⟩) BV_no ?_
    exact BS_ireturn dJ3_charAt_15 rfl
noncomputable def F_J3_charAt : FF := mk_F 2 F_J3_charAt_b0
theorem con_J3_charAt : Con_ yJ3_charAt (ws_ yJ3_charAt cJ3_charAt 2 (some .char)) 3 64 F_J3_charAt := Con_of (by decide +kernel) bs_J3_charAt_b0
/-- java/lang/Integer.compare(II)I -/
abbrev M_J8_compare : MM := (yJ8_compare, cJ8_compare, (some .int), 0, 0, 2, [])
theorem pd_J8_compare : (yJ8_compare.cls ≠ "java/lang/invoke/MethodHandle" ∧ yJ8_compare.cls ≠ "java/lang/invoke/VarHandle") ∧ (parseMethodDescriptor yJ8_compare.desc).map (fun d => d.parameters.length) = some 2 := ⟨⟨by decide +kernel, by decide +kernel⟩, by decide +kernel⟩
noncomputable def F_J8_compare_b0 : KK OO :=
  op_ild 0 <| op_ild 1 <| op_cge (op_ild 0 <| op_ild 1 <| op_cne (op_push (.int 1) <| op_iret .int) (op_push (.int 0) <| op_iret .int)) (op_push (.int (-1)) <| op_iret .int)
theorem bs_J8_compare_b0 : B_S M_J8_compare 0 (F_J8_compare_b0) z_O k_O := by
  unfold F_J8_compare_b0
  refine BS_iload_n dJ8_compare_0 rfl ?_
  refine BS_iload_n dJ8_compare_1 rfl ?_
  refine BS_icmp_ge (tgt := 9) dJ8_compare_2 (by decide) ?_ ?_
  · refine BS_iload_n dJ8_compare_9 rfl ?_
    refine BS_iload_n dJ8_compare_10 rfl ?_
    refine BS_icmp_ne (tgt := 18) dJ8_compare_11 (by decide) ?_ ?_
    · refine BS_iconst dJ8_compare_18 (by decide) ?_
      exact BS_ireturn dJ8_compare_19 rfl
    · refine BS_iconst dJ8_compare_14 (by decide) ?_
      refine BS_goto (tgt := 19) dJ8_compare_15 (by decide) ?_
      exact BS_ireturn dJ8_compare_19 rfl
  · refine BS_iconst dJ8_compare_5 (by decide) ?_
    refine BS_goto (tgt := 19) dJ8_compare_6 (by decide) ?_
    exact BS_ireturn dJ8_compare_19 rfl
noncomputable def F_J8_compare : FF := mk_F 2 F_J8_compare_b0
theorem con_J8_compare : Con_ yJ8_compare (ws_ yJ8_compare cJ8_compare 2 (some .int)) 0 0 F_J8_compare := Con_of (by decide +kernel) bs_J8_compare_b0
