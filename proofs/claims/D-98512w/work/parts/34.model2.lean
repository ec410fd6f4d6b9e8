/-! printed by emit.py: the functions that the methods compute, and their contracts -/
set_option maxRecDepth 100000
/-- LongerHalfModel.strain(IIIIIIII)I -/
abbrev M_X8_strain : MM := (yX8_strain, cX8_strain, (some .int), 2, 47, 10, [])
theorem pd_X8_strain : (yX8_strain.cls ≠ "java/lang/invoke/MethodHandle" ∧ yX8_strain.cls ≠ "java/lang/invoke/VarHandle") ∧ (parseMethodDescriptor yX8_strain.desc).map (fun d => d.parameters.length) = some 8 := ⟨⟨by decide +kernel, by decide +kernel⟩, by decide +kernel⟩
noncomputable def F_X8_strain_b32 : KK OO :=
  op_ild 1 <| op_ild 5 <| op_ild 7 <| op_ild 8 <| op_call 6 (f_kd 25 F_X8_refusesPull) kx_no <| op_ist 9 <| op_ild 9 <| op_ile (op_ald 0 <| op_ild 1 <| op_ild 4 <| op_ild 5 <| op_ild 6 <| op_ild 7 <| op_ild 8 <| op_call 7 (f_kd 25 F_X8_lays) kx_no <| op_ald 0 <| op_ald 0 <| op_ild 2 <| op_ild 3 <| op_call 3 (f_kd 25 F_X8_strainAt) kx_no <| op_call 2 (f_kd 25 F_X8_good) kx_no <| op_iret .int) (op_ald 0 <| op_ild 9 <| op_call 2 (f_kd 25 F_X8_refused) kx_no <| op_iret .int)
theorem bs_X8_strain_b32 : B_S M_X8_strain 32 (F_X8_strain_b32) z_O k_O := by
  unfold F_X8_strain_b32
  refine BS_iload_n dX8_strain_32 rfl ?_
  refine BS_iload dX8_strain_33 ?_
  refine BS_iload dX8_strain_35 ?_
  refine BS_iload dX8_strain_37 ?_
  refine BS_call (run_V dX8_strain_39 con_X8_refusesPull (ci := 15) rfl rfl q2139 q2141 qs96 q146 q2142 pd_X8_refusesPull ⟨Nat.le_of_ble_eq_true rfl, Nat.le_of_ble_eq_true rfl⟩) BV_no ?_
  refine BS_istore dX8_strain_42 (Nat.le_of_ble_eq_true rfl) ?_
  refine BS_iload dX8_strain_44 ?_
  refine BS_if_le (tgt := 56) dX8_strain_46 (by decide) ?_ ?_
  · refine BS_aload_n dX8_strain_56 rfl ?_
    refine BS_iload_n dX8_strain_57 rfl ?_
    refine BS_iload dX8_strain_58 ?_
    refine BS_iload dX8_strain_60 ?_
    refine BS_iload dX8_strain_62 ?_
    refine BS_iload dX8_strain_64 ?_
    refine BS_iload dX8_strain_66 ?_
    refine BS_call (run_V dX8_strain_68 con_X8_lays (ci := 15) rfl rfl q2119 q2121 qs92 q146 q2122 pd_X8_lays ⟨Nat.le_of_ble_eq_true rfl, Nat.le_of_ble_eq_true rfl⟩) BV_no ?_
    refine BS_aload_n dX8_strain_71 rfl ?_
    refine BS_aload_n dX8_strain_72 rfl ?_
    refine BS_iload_n dX8_strain_73 rfl ?_
    refine BS_iload_n dX8_strain_74 rfl ?_
    refine BS_call (run_V dX8_strain_75 con_X8_strainAt (ci := 15) rfl rfl q2143 q2145 qs97 q146 q2146 pd_X8_strainAt ⟨Nat.le_of_ble_eq_true rfl, Nat.le_of_ble_eq_true rfl⟩) BV_no ?_
    refine BS_call (run_V dX8_strain_78 con_X8_good (ci := 15) rfl rfl q2063 q2065 qs86 q146 q2066 pd_X8_good ⟨Nat.le_of_ble_eq_true rfl, Nat.le_of_ble_eq_true rfl⟩) BV_no ?_
    exact BS_ireturn dX8_strain_81 rfl
  · refine BS_aload_n dX8_strain_49 rfl ?_
    refine BS_iload dX8_strain_50 ?_
    refine BS_call (run_V dX8_strain_52 con_X8_refused (ci := 15) rfl rfl q1749 q1751 qs58 q146 q1752 pd_X8_refused ⟨Nat.le_of_ble_eq_true rfl, Nat.le_of_ble_eq_true rfl⟩) BV_no ?_
    exact BS_ireturn dX8_strain_55 rfl
noncomputable def F_X8_strain_b31 : KK OO :=
  op_push (.int 0) <| F_X8_strain_b32
theorem bs_X8_strain_b31 : B_S M_X8_strain 31 (F_X8_strain_b31) z_O k_O := by
  unfold F_X8_strain_b31
  refine BS_iconst dX8_strain_31 (by decide) ?_
  exact bs_X8_strain_b32
noncomputable def F_X8_strain_b0 : KK OO :=
  op_ald 0 <| op_push (.int 0) <| op_pfi .int [25] 98 <| op_ald 0 <| op_ald 0 <| op_ild 1 <| op_ild 2 <| op_ild 3 <| op_call 4 (f_kd 25 F_X8_isPlace) kx_no <| op_ieq (F_X8_strain_b31) (op_ald 0 <| op_ild 4 <| op_ild 6 <| op_call 3 (f_kd 25 F_X8_isPair) kx_no <| op_ieq (F_X8_strain_b31) (op_push (.int 1) <| F_X8_strain_b32))
theorem bs_X8_strain_b0 : B_S M_X8_strain 0 (F_X8_strain_b0) z_O k_O := by
  unfold F_X8_strain_b0
  refine BS_aload_n dX8_strain_0 rfl ?_
  refine BS_iconst dX8_strain_1 (by decide) ?_
  refine BS_pfi p_X8_53 (fun h => by cases h) dX8_strain_2 ?_
  refine BS_aload_n dX8_strain_5 rfl ?_
  refine BS_aload_n dX8_strain_6 rfl ?_
  refine BS_iload_n dX8_strain_7 rfl ?_
  refine BS_iload_n dX8_strain_8 rfl ?_
  refine BS_iload_n dX8_strain_9 rfl ?_
  refine BS_call (run_V dX8_strain_10 con_X8_isPlace (ci := 15) rfl rfl q2091 q2093 qs88 q146 q2094 pd_X8_isPlace ⟨Nat.le_of_ble_eq_true rfl, Nat.le_of_ble_eq_true rfl⟩) BV_no ?_
  refine BS_if_eq (tgt := 31) dX8_strain_13 (by decide) ?_ ?_
  · exact bs_X8_strain_b31
  · refine BS_aload_n dX8_strain_16 rfl ?_
    refine BS_iload dX8_strain_17 ?_
    refine BS_iload dX8_strain_19 ?_
    refine BS_call (run_V dX8_strain_21 con_X8_isPair (ci := 15) rfl rfl q2135 q2137 qs95 q146 q2138 pd_X8_isPair ⟨Nat.le_of_ble_eq_true rfl, Nat.le_of_ble_eq_true rfl⟩) BV_no ?_
    refine BS_if_eq (tgt := 31) dX8_strain_24 (by decide) ?_ ?_
    · exact bs_X8_strain_b31
    · refine BS_iconst dX8_strain_27 (by decide) ?_
      refine BS_goto (tgt := 32) dX8_strain_28 (by decide) ?_
      exact bs_X8_strain_b32
noncomputable def F_X8_strain : FF := mk_F 10 F_X8_strain_b0
theorem con_X8_strain : Con_ yX8_strain (ws_ yX8_strain cX8_strain 10 (some .int)) 2 47 F_X8_strain := Con_of (by decide +kernel) bs_X8_strain_b0
/-- LongerHalfModel.compares(IIII)J -/
abbrev M_X8_compares : MM := (yX8_compares, cX8_compares, (some .long), 2, 46, 9, [])
theorem pd_X8_compares : (yX8_compares.cls ≠ "java/lang/invoke/MethodHandle" ∧ yX8_compares.cls ≠ "java/lang/invoke/VarHandle") ∧ (parseMethodDescriptor yX8_compares.desc).map (fun d => d.parameters.length) = some 4 := ⟨⟨by decide +kernel, by decide +kernel⟩, by decide +kernel⟩
noncomputable def F_X8_compares_b45 : KK OO :=
  op_lld 7 <| op_push (.long 0) <| op_lcmp <| op_ine (op_push (.long 0) <| op_l2 (fun x y => x - y) <| op_lret) (op_push (.long 1) <| op_l2 (fun x y => x - y) <| op_lret)
theorem bs_X8_compares_b45 : B_S M_X8_compares 45 (F_X8_compares_b45) z_O k_O := by
  unfold F_X8_compares_b45
  refine BS_lload dX8_compares_45 ?_
  refine BS_lconst dX8_compares_47 (by decide) ?_
  refine BS_lcmp dX8_compares_48 ?_
  refine BS_if_ne (tgt := 56) dX8_compares_49 (by decide) ?_ ?_
  · refine BS_lconst dX8_compares_56 (by decide) ?_
    refine BS_lsub dX8_compares_57 ?_
    exact BS_lreturn dX8_compares_58 rfl
  · refine BS_lconst dX8_compares_52 (by decide) ?_
    refine BS_goto (tgt := 57) dX8_compares_53 (by decide) ?_
    refine BS_lsub dX8_compares_57 ?_
    exact BS_lreturn dX8_compares_58 rfl
noncomputable def F_X8_compares_b33 : KK OO :=
  op_lld 5 <| op_push (.long 0) <| op_lcmp <| op_ine (op_push (.long 0) <| F_X8_compares_b45) (op_push (.long 1) <| F_X8_compares_b45)
theorem bs_X8_compares_b33 : B_S M_X8_compares 33 (F_X8_compares_b33) z_O k_O := by
  unfold F_X8_compares_b33
  refine BS_lload dX8_compares_33 ?_
  refine BS_lconst dX8_compares_35 (by decide) ?_
  refine BS_lcmp dX8_compares_36 ?_
  refine BS_if_ne (tgt := 44) dX8_compares_37 (by decide) ?_ ?_
  · refine BS_lconst dX8_compares_44 (by decide) ?_
    exact bs_X8_compares_b45
  · refine BS_lconst dX8_compares_40 (by decide) ?_
    refine BS_goto (tgt := 45) dX8_compares_41 (by decide) ?_
    exact bs_X8_compares_b45
noncomputable def F_X8_compares_b0 : KK OO :=
  op_ald 0 <| op_ild 1 <| op_ild 2 <| op_call 3 (f_kd 25 F_X8_strengthAt) kx_no <| op_i2l <| op_lst 5 <| op_ald 0 <| op_ild 3 <| op_ild 4 <| op_call 3 (f_kd 25 F_X8_strengthAt) kx_no <| op_i2l <| op_lst 7 <| op_lld 5 <| op_push (.long 0) <| op_lcmp <| op_ieq (F_X8_compares_b33) (op_lld 7 <| op_push (.long 0) <| op_lcmp <| op_ine (op_ald 0 <| op_ild 1 <| op_ild 2 <| op_call 3 (f_kd 25 F_X8_strainAt) kx_no <| op_i2l <| op_lld 7 <| op_l2 (fun x y => x * y) <| op_ald 0 <| op_ild 3 <| op_ild 4 <| op_call 3 (f_kd 25 F_X8_strainAt) kx_no <| op_i2l <| op_lld 5 <| op_l2 (fun x y => x * y) <| op_l2 (fun x y => x - y) <| op_lret) (F_X8_compares_b33))
theorem bs_X8_compares_b0 : B_S M_X8_compares 0 (F_X8_compares_b0) z_O k_O := by
  unfold F_X8_compares_b0
  refine BS_aload_n dX8_compares_0 rfl ?_
  refine BS_iload_n dX8_compares_1 rfl ?_
  refine BS_iload_n dX8_compares_2 rfl ?_
  refine BS_call (run_V dX8_compares_3 con_X8_strengthAt (ci := 15) rfl rfl q2127 q2129 qs94 q146 q2130 pd_X8_strengthAt ⟨Nat.le_of_ble_eq_true rfl, Nat.le_of_ble_eq_true rfl⟩) BV_no ?_
  refine BS_i2l dX8_compares_6 ?_
  refine BS_lstore dX8_compares_7 (Nat.le_of_ble_eq_true rfl) ?_
  refine BS_aload_n dX8_compares_9 rfl ?_
  refine BS_iload_n dX8_compares_10 rfl ?_
  refine BS_iload dX8_compares_11 ?_
  refine BS_call (run_V dX8_compares_13 con_X8_strengthAt (ci := 15) rfl rfl q2127 q2129 qs94 q146 q2130 pd_X8_strengthAt ⟨Nat.le_of_ble_eq_true rfl, Nat.le_of_ble_eq_true rfl⟩) BV_no ?_
  refine BS_i2l dX8_compares_16 ?_
  refine BS_lstore dX8_compares_17 (Nat.le_of_ble_eq_true rfl) ?_
  refine BS_lload dX8_compares_19 ?_
  refine BS_lconst dX8_compares_21 (by decide) ?_
  refine BS_lcmp dX8_compares_22 ?_
  refine BS_if_eq (tgt := 33) dX8_compares_23 (by decide) ?_ ?_
  · exact bs_X8_compares_b33
  · refine BS_lload dX8_compares_26 ?_
    refine BS_lconst dX8_compares_28 (by decide) ?_
    refine BS_lcmp dX8_compares_29 ?_
    refine BS_if_ne (tgt := 59) dX8_compares_30 (by decide) ?_ ?_
    · refine BS_aload_n dX8_compares_59 rfl ?_
      refine BS_iload_n dX8_compares_60 rfl ?_
      refine BS_iload_n dX8_compares_61 rfl ?_
      refine BS_call (run_V dX8_compares_62 con_X8_strainAt (ci := 15) rfl rfl q2143 q2145 qs97 q146 q2146 pd_X8_strainAt ⟨Nat.le_of_ble_eq_true rfl, Nat.le_of_ble_eq_true rfl⟩) BV_no ?_
      refine BS_i2l dX8_compares_65 ?_
      refine BS_lload dX8_compares_66 ?_
      refine BS_lmul dX8_compares_68 ?_
      refine BS_aload_n dX8_compares_69 rfl ?_
      refine BS_iload_n dX8_compares_70 rfl ?_
      refine BS_iload dX8_compares_71 ?_
      refine BS_call (run_V dX8_compares_73 con_X8_strainAt (ci := 15) rfl rfl q2143 q2145 qs97 q146 q2146 pd_X8_strainAt ⟨Nat.le_of_ble_eq_true rfl, Nat.le_of_ble_eq_true rfl⟩) BV_no ?_
      refine BS_i2l dX8_compares_76 ?_
      refine BS_lload dX8_compares_77 ?_
      refine BS_lmul dX8_compares_79 ?_
      refine BS_lsub dX8_compares_80 ?_
      exact BS_lreturn dX8_compares_81 rfl
    · exact bs_X8_compares_b33
noncomputable def F_X8_compares : FF := mk_F 9 F_X8_compares_b0
theorem con_X8_compares : Con_ yX8_compares (ws_ yX8_compares cX8_compares 9 (some .long)) 2 46 F_X8_compares := Con_of (by decide +kernel) bs_X8_compares_b0
/-- LongerHalfModel.worst(I)I -/
abbrev M_X8_worst : MM := (yX8_worst, cX8_worst, (some .int), 3, 74, 4, [])
theorem pd_X8_worst : (yX8_worst.cls ≠ "java/lang/invoke/MethodHandle" ∧ yX8_worst.cls ≠ "java/lang/invoke/VarHandle") ∧ (parseMethodDescriptor yX8_worst.desc).map (fun d => d.parameters.length) = some 1 := ⟨⟨by decide +kernel, by decide +kernel⟩, by decide +kernel⟩
noncomputable def F_X8_worst_l4 : KK (L_S ⊕ OO) :=
  op_ild 3 <| op_ald 0 <| op_gfr [25] 101 <| op_ald 0 <| op_gfi [25] 119 <| op_ild 1 <| op_call 3 (f_kd 26 F_X20_many) kx_no <| op_cge (op_exit <| op_ild 2 <| op_iret .int) (op_ald 0 <| op_ild 1 <| op_ild 3 <| op_call 3 (f_kd 25 F_X8_strainAt) kx_no <| op_ald 0 <| op_ild 1 <| op_ild 3 <| op_call 3 (f_kd 25 F_X8_strengthAt) kx_no <| op_cgt (op_ild 2 <| op_push (.int (-1)) <| op_ceq (op_ild 3 <| op_ist 2 <| op_iinc 3 1 <| op_back) (op_ald 0 <| op_ild 1 <| op_ild 3 <| op_ild 1 <| op_ild 2 <| op_call 5 (f_kd 25 F_X8_compares) kx_no <| op_push (.long 0) <| op_lcmp <| op_ile (op_iinc 3 1 <| op_back) (op_ild 3 <| op_ist 2 <| op_iinc 3 1 <| op_back))) (op_iinc 3 1 <| op_back))
theorem bs_X8_worst_l4 : B_S M_X8_worst 4 (F_X8_worst_l4) (z_L z_O) (k_L 4 k_O) := by
  unfold F_X8_worst_l4
  refine BS_iload_n dX8_worst_4 rfl ?_
  refine BS_aload_n dX8_worst_5 rfl ?_
  refine BS_gfr f_X8_373 dX8_worst_6 ?_
  refine BS_aload_n dX8_worst_9 rfl ?_
  refine BS_gfi f_X8_381 dX8_worst_10 ?_
  refine BS_iload_n dX8_worst_13 rfl ?_
  refine BS_call (run_V dX8_worst_14 con_X20_many (ci := 16) rfl rfl q2083 q2084 q2085 q163 q2086 pd_X20_many ⟨Nat.le_of_ble_eq_true rfl, Nat.le_of_ble_eq_true rfl⟩) BV_no ?_
  refine BS_icmp_ge (tgt := 64) dX8_worst_17 (by decide) ?_ ?_
  · refine BS_exit ?_
    refine BS_iload_n dX8_worst_64 rfl ?_
    exact BS_ireturn dX8_worst_65 rfl
  · refine BS_aload_n dX8_worst_20 rfl ?_
    refine BS_iload_n dX8_worst_21 rfl ?_
    refine BS_iload_n dX8_worst_22 rfl ?_
    refine BS_call (run_V dX8_worst_23 con_X8_strainAt (ci := 15) rfl rfl q2143 q2145 qs97 q146 q2146 pd_X8_strainAt ⟨Nat.le_of_ble_eq_true rfl, Nat.le_of_ble_eq_true rfl⟩) BV_no ?_
    refine BS_aload_n dX8_worst_26 rfl ?_
    refine BS_iload_n dX8_worst_27 rfl ?_
    refine BS_iload_n dX8_worst_28 rfl ?_
    refine BS_call (run_V dX8_worst_29 con_X8_strengthAt (ci := 15) rfl rfl q2127 q2129 qs94 q146 q2130 pd_X8_strengthAt ⟨Nat.le_of_ble_eq_true rfl, Nat.le_of_ble_eq_true rfl⟩) BV_no ?_
    refine BS_icmp_gt (tgt := 38) dX8_worst_32 (by decide) ?_ ?_
    · refine BS_iload_n dX8_worst_38 rfl ?_
      refine BS_iconst dX8_worst_39 (by decide) ?_
      refine BS_icmp_eq (tgt := 56) dX8_worst_40 (by decide) ?_ ?_
      · refine BS_iload_n dX8_worst_56 rfl ?_
        refine BS_istore_n dX8_worst_57 rfl (Nat.le_of_ble_eq_true rfl) ?_
        refine BS_iinc dX8_worst_58 (by decide) (Nat.le_of_ble_eq_true rfl) ?_
        refine BS_goto (tgt := 4) dX8_worst_61 (by decide) ?_
        exact BS_back
      · refine BS_aload_n dX8_worst_43 rfl ?_
        refine BS_iload_n dX8_worst_44 rfl ?_
        refine BS_iload_n dX8_worst_45 rfl ?_
        refine BS_iload_n dX8_worst_46 rfl ?_
        refine BS_iload_n dX8_worst_47 rfl ?_
        refine BS_call (run_V dX8_worst_48 con_X8_compares (ci := 15) rfl rfl q2159 q2161 qs100 q146 q2162 pd_X8_compares ⟨Nat.le_of_ble_eq_true rfl, Nat.le_of_ble_eq_true rfl⟩) BV_no ?_
        refine BS_lconst dX8_worst_51 (by decide) ?_
        refine BS_lcmp dX8_worst_52 ?_
        refine BS_if_le (tgt := 58) dX8_worst_53 (by decide) ?_ ?_
        · refine BS_iinc dX8_worst_58 (by decide) (Nat.le_of_ble_eq_true rfl) ?_
          refine BS_goto (tgt := 4) dX8_worst_61 (by decide) ?_
          exact BS_back
        · refine BS_iload_n dX8_worst_56 rfl ?_
          refine BS_istore_n dX8_worst_57 rfl (Nat.le_of_ble_eq_true rfl) ?_
          refine BS_iinc dX8_worst_58 (by decide) (Nat.le_of_ble_eq_true rfl) ?_
          refine BS_goto (tgt := 4) dX8_worst_61 (by decide) ?_
          exact BS_back
    · refine BS_goto (tgt := 58) dX8_worst_35 (by decide) ?_
      refine BS_iinc dX8_worst_58 (by decide) (Nat.le_of_ble_eq_true rfl) ?_
      refine BS_goto (tgt := 4) dX8_worst_61 (by decide) ?_
      exact BS_back
noncomputable def F_X8_worst_b4 : KK OO := op_loop (F_X8_worst_l4)
theorem bs_X8_worst_b4 : B_S M_X8_worst 4 (F_X8_worst_b4) z_O k_O := BS_loop (bs_X8_worst_l4)
noncomputable def F_X8_worst_b0 : KK OO :=
  op_push (.int (-1)) <| op_ist 2 <| op_push (.int 0) <| op_ist 3 <| F_X8_worst_b4
theorem bs_X8_worst_b0 : B_S M_X8_worst 0 (F_X8_worst_b0) z_O k_O := by
  unfold F_X8_worst_b0
  refine BS_iconst dX8_worst_0 (by decide) ?_
  refine BS_istore_n dX8_worst_1 rfl (Nat.le_of_ble_eq_true rfl) ?_
  refine BS_iconst dX8_worst_2 (by decide) ?_
  refine BS_istore_n dX8_worst_3 rfl (Nat.le_of_ble_eq_true rfl) ?_
  exact bs_X8_worst_b4
noncomputable def F_X8_worst : FF := mk_F 4 F_X8_worst_b0
theorem con_X8_worst : Con_ yX8_worst (ws_ yX8_worst cX8_worst 4 (some .int)) 3 74 F_X8_worst := Con_of (by decide +kernel) bs_X8_worst_b0
/-- LongerHalfModel.comes()I -/
abbrev M_X8_comes : MM := (yX8_comes, cX8_comes, (some .int), 4, 97, 5, [])
theorem pd_X8_comes : (yX8_comes.cls ≠ "java/lang/invoke/MethodHandle" ∧ yX8_comes.cls ≠ "java/lang/invoke/VarHandle") ∧ (parseMethodDescriptor yX8_comes.desc).map (fun d => d.parameters.length) = some 0 := ⟨⟨by decide +kernel, by decide +kernel⟩, by decide +kernel⟩
noncomputable def F_X8_comes_b124 : KK OO :=
  op_pfi .int [25] 124 <| op_lld 3 <| op_push (.long 0) <| op_lcmp <| op_ile (op_push (.int 0) <| op_iret .int) (op_push (.int 1) <| op_iret .int)
theorem bs_X8_comes_b124 : B_S M_X8_comes 124 (F_X8_comes_b124) z_O k_O := by
  unfold F_X8_comes_b124
  refine BS_pfi p_X8_427 (fun h => by cases h) dX8_comes_124 ?_
  refine BS_lload_n dX8_comes_127 rfl ?_
  refine BS_lconst dX8_comes_128 (by decide) ?_
  refine BS_lcmp dX8_comes_129 ?_
  refine BS_if_le (tgt := 137) dX8_comes_130 (by decide) ?_ ?_
  · refine BS_iconst dX8_comes_137 (by decide) ?_
    exact BS_ireturn dX8_comes_138 rfl
  · refine BS_iconst dX8_comes_133 (by decide) ?_
    refine BS_goto (tgt := 138) dX8_comes_134 (by decide) ?_
    exact BS_ireturn dX8_comes_138 rfl
noncomputable def F_X8_comes_b109 : KK OO :=
  op_pfi .int [25] 123 <| op_ald 0 <| op_lld 3 <| op_push (.long 0) <| op_lcmp <| op_ile (op_ild 2 <| F_X8_comes_b124) (op_ild 1 <| F_X8_comes_b124)
theorem bs_X8_comes_b109 : B_S M_X8_comes 109 (F_X8_comes_b109) z_O k_O := by
  unfold F_X8_comes_b109
  refine BS_pfi p_X8_419 (fun h => by cases h) dX8_comes_109 ?_
  refine BS_aload_n dX8_comes_112 rfl ?_
  refine BS_lload_n dX8_comes_113 rfl ?_
  refine BS_lconst dX8_comes_114 (by decide) ?_
  refine BS_lcmp dX8_comes_115 ?_
  refine BS_if_le (tgt := 123) dX8_comes_116 (by decide) ?_ ?_
  · refine BS_iload_n dX8_comes_123 rfl ?_
    exact bs_X8_comes_b124
  · refine BS_iload_n dX8_comes_119 rfl ?_
    refine BS_goto (tgt := 124) dX8_comes_120 (by decide) ?_
    exact bs_X8_comes_b124
noncomputable def F_X8_comes_b88 : KK OO :=
  op_lst 3 <| op_lld 3 <| op_push (.long 0) <| op_lcmp <| op_ine (op_ald 0 <| op_lld 3 <| op_push (.long 0) <| op_lcmp <| op_ile (op_push (.int 1) <| F_X8_comes_b109) (op_push (.int 0) <| F_X8_comes_b109)) (op_push (.int 2) <| op_iret .int)
theorem bs_X8_comes_b88 : B_S M_X8_comes 88 (F_X8_comes_b88) z_O k_O := by
  unfold F_X8_comes_b88
  refine BS_lstore_n dX8_comes_88 rfl (Nat.le_of_ble_eq_true rfl) ?_
  refine BS_lload_n dX8_comes_89 rfl ?_
  refine BS_lconst dX8_comes_90 (by decide) ?_
  refine BS_lcmp dX8_comes_91 ?_
  refine BS_if_ne (tgt := 97) dX8_comes_92 (by decide) ?_ ?_
  · refine BS_aload_n dX8_comes_97 rfl ?_
    refine BS_lload_n dX8_comes_98 rfl ?_
    refine BS_lconst dX8_comes_99 (by decide) ?_
    refine BS_lcmp dX8_comes_100 ?_
    refine BS_if_le (tgt := 108) dX8_comes_101 (by decide) ?_ ?_
    · refine BS_iconst dX8_comes_108 (by decide) ?_
      exact bs_X8_comes_b109
    · refine BS_iconst dX8_comes_104 (by decide) ?_
      refine BS_goto (tgt := 109) dX8_comes_105 (by decide) ?_
      exact bs_X8_comes_b109
  · refine BS_iconst dX8_comes_95 (by decide) ?_
    exact BS_ireturn dX8_comes_96 rfl
noncomputable def F_X8_comes_b60 : KK OO :=
  op_ild 1 <| op_push (.int (-1)) <| op_cne (op_ild 2 <| op_push (.int (-1)) <| op_cne (op_ald 0 <| op_push (.int 0) <| op_ild 1 <| op_push (.int 1) <| op_ild 2 <| op_call 5 (f_kd 25 F_X8_compares) kx_no <| F_X8_comes_b88) (op_push (.long 1) <| F_X8_comes_b88)) (op_push (.long (-1)) <| F_X8_comes_b88)
theorem bs_X8_comes_b60 : B_S M_X8_comes 60 (F_X8_comes_b60) z_O k_O := by
  unfold F_X8_comes_b60
  refine BS_iload_n dX8_comes_60 rfl ?_
  refine BS_iconst dX8_comes_61 (by decide) ?_
  refine BS_icmp_ne (tgt := 71) dX8_comes_62 (by decide) ?_ ?_
  · refine BS_iload_n dX8_comes_71 rfl ?_
    refine BS_iconst dX8_comes_72 (by decide) ?_
    refine BS_icmp_ne (tgt := 80) dX8_comes_73 (by decide) ?_ ?_
    · refine BS_aload_n dX8_comes_80 rfl ?_
      refine BS_iconst dX8_comes_81 (by decide) ?_
      refine BS_iload_n dX8_comes_82 rfl ?_
      refine BS_iconst dX8_comes_83 (by decide) ?_
      refine BS_iload_n dX8_comes_84 rfl ?_
      refine BS_call (run_V dX8_comes_85 con_X8_compares (ci := 15) rfl rfl q2159 q2161 qs100 q146 q2162 pd_X8_compares ⟨Nat.le_of_ble_eq_true rfl, Nat.le_of_ble_eq_true rfl⟩) BV_no ?_
      exact bs_X8_comes_b88
    · refine BS_lconst dX8_comes_76 (by decide) ?_
      refine BS_goto (tgt := 88) dX8_comes_77 (by decide) ?_
      exact bs_X8_comes_b88
  · refine BS_ldc2 dX8_comes_65 q2163 ?_
    refine BS_goto (tgt := 88) dX8_comes_68 (by decide) ?_
    exact bs_X8_comes_b88
noncomputable def F_X8_comes_b0 : KK OO :=
  op_ald 0 <| op_push (.int (-1)) <| op_pfi .int [25] 123 <| op_ald 0 <| op_gfi [25] 120 <| op_ald 0 <| op_gfr [25] 101 <| op_gfi [26] 137 <| op_clt (op_push (.int 3) <| op_iret .int) (op_ald 0 <| op_gfr [25] 114 <| op_push (.int 0) <| op_ald 0 <| op_gfi [25] 119 <| op_i2 (fun x y => x + y) <| op_iald 1 <| op_push (.int 2) <| op_cne (op_ald 0 <| op_push (.int 0) <| op_call 2 (f_kd 25 F_X8_worst) kx_no <| op_ist 1 <| op_ald 0 <| op_push (.int 1) <| op_call 2 (f_kd 25 F_X8_worst) kx_no <| op_ist 2 <| op_ild 1 <| op_push (.int (-1)) <| op_cne (F_X8_comes_b60) (op_ild 2 <| op_push (.int (-1)) <| op_cne (F_X8_comes_b60) (op_push (.int 3) <| op_iret .int))) (op_push (.int 3) <| op_iret .int))
theorem bs_X8_comes_b0 : B_S M_X8_comes 0 (F_X8_comes_b0) z_O k_O := by
  unfold F_X8_comes_b0
  refine BS_aload_n dX8_comes_0 rfl ?_
  refine BS_iconst dX8_comes_1 (by decide) ?_
  refine BS_pfi p_X8_419 (fun h => by cases h) dX8_comes_2 ?_
  refine BS_aload_n dX8_comes_5 rfl ?_
  refine BS_gfi f_X8_383 dX8_comes_6 ?_
  refine BS_aload_n dX8_comes_9 rfl ?_
  refine BS_gfr f_X8_373 dX8_comes_10 ?_
  refine BS_gfi f_X8_250 dX8_comes_13 ?_
  refine BS_icmp_lt (tgt := 34) dX8_comes_16 (by decide) ?_ ?_
  · refine BS_iconst dX8_comes_34 (by decide) ?_
    exact BS_ireturn dX8_comes_35 rfl
  · refine BS_aload_n dX8_comes_19 rfl ?_
    refine BS_gfr f_X8_17 dX8_comes_20 ?_
    refine BS_iconst dX8_comes_23 (by decide) ?_
    refine BS_aload_n dX8_comes_24 rfl ?_
    refine BS_gfi f_X8_381 dX8_comes_25 ?_
    refine BS_iadd dX8_comes_28 ?_
    refine BS_iaload dX8_comes_29 ?_
    refine BS_iconst dX8_comes_30 (by decide) ?_
    refine BS_icmp_ne (tgt := 36) dX8_comes_31 (by decide) ?_ ?_
    · refine BS_aload_n dX8_comes_36 rfl ?_
      refine BS_iconst dX8_comes_37 (by decide) ?_
      refine BS_call (run_V dX8_comes_38 con_X8_worst (ci := 15) rfl rfl q2155 q2157 qs99 q146 q2158 pd_X8_worst ⟨Nat.le_of_ble_eq_true rfl, Nat.le_of_ble_eq_true rfl⟩) BV_no ?_
      refine BS_istore_n dX8_comes_41 rfl (Nat.le_of_ble_eq_true rfl) ?_
      refine BS_aload_n dX8_comes_42 rfl ?_
      refine BS_iconst dX8_comes_43 (by decide) ?_
      refine BS_call (run_V dX8_comes_44 con_X8_worst (ci := 15) rfl rfl q2155 q2157 qs99 q146 q2158 pd_X8_worst ⟨Nat.le_of_ble_eq_true rfl, Nat.le_of_ble_eq_true rfl⟩) BV_no ?_
      refine BS_istore_n dX8_comes_47 rfl (Nat.le_of_ble_eq_true rfl) ?_
      refine BS_iload_n dX8_comes_48 rfl ?_
      refine BS_iconst dX8_comes_49 (by decide) ?_
      refine BS_icmp_ne (tgt := 60) dX8_comes_50 (by decide) ?_ ?_
      · exact bs_X8_comes_b60
      · refine BS_iload_n dX8_comes_53 rfl ?_
        refine BS_iconst dX8_comes_54 (by decide) ?_
        refine BS_icmp_ne (tgt := 60) dX8_comes_55 (by decide) ?_ ?_
        · exact bs_X8_comes_b60
        · refine BS_iconst dX8_comes_58 (by decide) ?_
          exact BS_ireturn dX8_comes_59 rfl
    · refine BS_iconst dX8_comes_34 (by decide) ?_
      exact BS_ireturn dX8_comes_35 rfl
noncomputable def F_X8_comes : FF := mk_F 5 F_X8_comes_b0
theorem con_X8_comes : Con_ yX8_comes (ws_ yX8_comes cX8_comes 5 (some .int)) 4 97 F_X8_comes := Con_of (by decide +kernel) bs_X8_comes_b0
/-- LongerHalfModel.pulled(IIIIII)I -/
abbrev M_X8_pulled : MM := (yX8_pulled, cX8_pulled, (some .int), 5, 121, 8, [])
theorem pd_X8_pulled : (yX8_pulled.cls ≠ "java/lang/invoke/MethodHandle" ∧ yX8_pulled.cls ≠ "java/lang/invoke/VarHandle") ∧ (parseMethodDescriptor yX8_pulled.desc).map (fun d => d.parameters.length) = some 6 := ⟨⟨by decide +kernel, by decide +kernel⟩, by decide +kernel⟩
noncomputable def F_X8_pulled_b29 : KK OO :=
  op_ild 1 <| op_ild 3 <| op_ild 5 <| op_ild 6 <| op_call 6 (f_kd 25 F_X8_refusesPull) kx_no <| op_ist 7 <| op_ild 7 <| op_ile (op_ald 0 <| op_ild 1 <| op_ild 2 <| op_ild 3 <| op_ild 4 <| op_ild 5 <| op_ild 6 <| op_call 7 (f_kd 25 F_X8_lays) kx_no <| op_ald 0 <| op_ald 0 <| op_call 1 (f_kd 25 F_X8_comes) kx_no <| op_call 2 (f_kd 25 F_X8_good) kx_no <| op_iret .int) (op_ald 0 <| op_ild 7 <| op_call 2 (f_kd 25 F_X8_refused) kx_no <| op_iret .int)
theorem bs_X8_pulled_b29 : B_S M_X8_pulled 29 (F_X8_pulled_b29) z_O k_O := by
  unfold F_X8_pulled_b29
  refine BS_iload_n dX8_pulled_29 rfl ?_
  refine BS_iload_n dX8_pulled_30 rfl ?_
  refine BS_iload dX8_pulled_31 ?_
  refine BS_iload dX8_pulled_33 ?_
  refine BS_call (run_V dX8_pulled_35 con_X8_refusesPull (ci := 15) rfl rfl q2139 q2141 qs96 q146 q2142 pd_X8_refusesPull ⟨Nat.le_of_ble_eq_true rfl, Nat.le_of_ble_eq_true rfl⟩) BV_no ?_
  refine BS_istore dX8_pulled_38 (Nat.le_of_ble_eq_true rfl) ?_
  refine BS_iload dX8_pulled_40 ?_
  refine BS_if_le (tgt := 52) dX8_pulled_42 (by decide) ?_ ?_
  · refine BS_aload_n dX8_pulled_52 rfl ?_
    refine BS_iload_n dX8_pulled_53 rfl ?_
    refine BS_iload_n dX8_pulled_54 rfl ?_
    refine BS_iload_n dX8_pulled_55 rfl ?_
    refine BS_iload dX8_pulled_56 ?_
    refine BS_iload dX8_pulled_58 ?_
    refine BS_iload dX8_pulled_60 ?_
    refine BS_call (run_V dX8_pulled_62 con_X8_lays (ci := 15) rfl rfl q2119 q2121 qs92 q146 q2122 pd_X8_lays ⟨Nat.le_of_ble_eq_true rfl, Nat.le_of_ble_eq_true rfl⟩) BV_no ?_
    refine BS_aload_n dX8_pulled_65 rfl ?_
    refine BS_aload_n dX8_pulled_66 rfl ?_
    refine BS_call (run_V dX8_pulled_67 con_X8_comes (ci := 15) rfl rfl q2151 q2153 qs98 q146 q2154 pd_X8_comes ⟨Nat.le_of_ble_eq_true rfl, Nat.le_of_ble_eq_true rfl⟩) BV_no ?_
    refine BS_call (run_V dX8_pulled_70 con_X8_good (ci := 15) rfl rfl q2063 q2065 qs86 q146 q2066 pd_X8_good ⟨Nat.le_of_ble_eq_true rfl, Nat.le_of_ble_eq_true rfl⟩) BV_no ?_
    exact BS_ireturn dX8_pulled_73 rfl
  · refine BS_aload_n dX8_pulled_45 rfl ?_
    refine BS_iload dX8_pulled_46 ?_
    refine BS_call (run_V dX8_pulled_48 con_X8_refused (ci := 15) rfl rfl q1749 q1751 qs58 q146 q1752 pd_X8_refused ⟨Nat.le_of_ble_eq_true rfl, Nat.le_of_ble_eq_true rfl⟩) BV_no ?_
    exact BS_ireturn dX8_pulled_51 rfl
noncomputable def F_X8_pulled_b28 : KK OO :=
  op_push (.int 0) <| F_X8_pulled_b29
theorem bs_X8_pulled_b28 : B_S M_X8_pulled 28 (F_X8_pulled_b28) z_O k_O := by
  unfold F_X8_pulled_b28
  refine BS_iconst dX8_pulled_28 (by decide) ?_
  exact bs_X8_pulled_b29
noncomputable def F_X8_pulled_b0 : KK OO :=
  op_ald 0 <| op_push (.int 0) <| op_pfi .int [25] 98 <| op_ald 0 <| op_ald 0 <| op_ild 1 <| op_call 2 (f_kd 25 F_X8_isBone) kx_no <| op_ieq (F_X8_pulled_b28) (op_ald 0 <| op_ild 2 <| op_ild 4 <| op_call 3 (f_kd 25 F_X8_isPair) kx_no <| op_ieq (F_X8_pulled_b28) (op_push (.int 1) <| F_X8_pulled_b29))
theorem bs_X8_pulled_b0 : B_S M_X8_pulled 0 (F_X8_pulled_b0) z_O k_O := by
  unfold F_X8_pulled_b0
  refine BS_aload_n dX8_pulled_0 rfl ?_
  refine BS_iconst dX8_pulled_1 (by decide) ?_
  refine BS_pfi p_X8_53 (fun h => by cases h) dX8_pulled_2 ?_
  refine BS_aload_n dX8_pulled_5 rfl ?_
  refine BS_aload_n dX8_pulled_6 rfl ?_
  refine BS_iload_n dX8_pulled_7 rfl ?_
  refine BS_call (run_V dX8_pulled_8 con_X8_isBone (ci := 15) rfl rfl q2079 q2081 qs87 q146 q2082 pd_X8_isBone ⟨Nat.le_of_ble_eq_true rfl, Nat.le_of_ble_eq_true rfl⟩) BV_no ?_
  refine BS_if_eq (tgt := 28) dX8_pulled_11 (by decide) ?_ ?_
  · exact bs_X8_pulled_b28
  · refine BS_aload_n dX8_pulled_14 rfl ?_
    refine BS_iload_n dX8_pulled_15 rfl ?_
    refine BS_iload dX8_pulled_16 ?_
    refine BS_call (run_V dX8_pulled_18 con_X8_isPair (ci := 15) rfl rfl q2135 q2137 qs95 q146 q2138 pd_X8_isPair ⟨Nat.le_of_ble_eq_true rfl, Nat.le_of_ble_eq_true rfl⟩) BV_no ?_
    refine BS_if_eq (tgt := 28) dX8_pulled_21 (by decide) ?_ ?_
    · exact bs_X8_pulled_b28
    · refine BS_iconst dX8_pulled_24 (by decide) ?_
      refine BS_goto (tgt := 29) dX8_pulled_25 (by decide) ?_
      exact bs_X8_pulled_b29
noncomputable def F_X8_pulled : FF := mk_F 8 F_X8_pulled_b0
theorem con_X8_pulled : Con_ yX8_pulled (ws_ yX8_pulled cX8_pulled 8 (some .int)) 5 121 F_X8_pulled := Con_of (by decide +kernel) bs_X8_pulled_b0
/-- LongerHalfModel.breaksAt(IIIIII)I -/
abbrev M_X8_breaksAt : MM := (yX8_breaksAt, cX8_breaksAt, (some .int), 5, 121, 8, [])
theorem pd_X8_breaksAt : (yX8_breaksAt.cls ≠ "java/lang/invoke/MethodHandle" ∧ yX8_breaksAt.cls ≠ "java/lang/invoke/VarHandle") ∧ (parseMethodDescriptor yX8_breaksAt.desc).map (fun d => d.parameters.length) = some 6 := ⟨⟨by decide +kernel, by decide +kernel⟩, by decide +kernel⟩
noncomputable def F_X8_breaksAt_b96 : KK OO :=
  op_call 2 (f_kd 25 F_X8_good) kx_no <| op_iret .int
theorem bs_X8_breaksAt_b96 : B_S M_X8_breaksAt 96 (F_X8_breaksAt_b96) z_O k_O := by
  unfold F_X8_breaksAt_b96
  refine BS_call (run_V dX8_breaksAt_96 con_X8_good (ci := 15) rfl rfl q2063 q2065 qs86 q146 q2066 pd_X8_good ⟨Nat.le_of_ble_eq_true rfl, Nat.le_of_ble_eq_true rfl⟩) BV_no ?_
  exact BS_ireturn dX8_breaksAt_99 rfl
noncomputable def F_X8_breaksAt_b29 : KK OO :=
  op_ild 1 <| op_ild 3 <| op_ild 5 <| op_ild 6 <| op_call 6 (f_kd 25 F_X8_refusesPull) kx_no <| op_ist 7 <| op_ild 7 <| op_ile (op_ald 0 <| op_ild 1 <| op_ild 2 <| op_ild 3 <| op_ild 4 <| op_ild 5 <| op_ild 6 <| op_call 7 (f_kd 25 F_X8_lays) kx_no <| op_ald 0 <| op_call 1 (f_kd 25 F_X8_comes) kx_no <| op_pop <| op_ald 0 <| op_ald 0 <| op_gfi [25] 123 <| op_push (.int (-1)) <| op_cne (op_push (.int 10) <| op_ald 0 <| op_gfi [25] 123 <| op_i2 (fun x y => x * y) <| op_ald 0 <| op_gfi [25] 124 <| op_i2 (fun x y => x + y) <| F_X8_breaksAt_b96) (op_push (.int (-2)) <| F_X8_breaksAt_b96)) (op_ald 0 <| op_ild 7 <| op_call 2 (f_kd 25 F_X8_refused) kx_no <| op_iret .int)
theorem bs_X8_breaksAt_b29 : B_S M_X8_breaksAt 29 (F_X8_breaksAt_b29) z_O k_O := by
  unfold F_X8_breaksAt_b29
  refine BS_iload_n dX8_breaksAt_29 rfl ?_
  refine BS_iload_n dX8_breaksAt_30 rfl ?_
  refine BS_iload dX8_breaksAt_31 ?_
  refine BS_iload dX8_breaksAt_33 ?_
  refine BS_call (run_V dX8_breaksAt_35 con_X8_refusesPull (ci := 15) rfl rfl q2139 q2141 qs96 q146 q2142 pd_X8_refusesPull ⟨Nat.le_of_ble_eq_true rfl, Nat.le_of_ble_eq_true rfl⟩) BV_no ?_
  refine BS_istore dX8_breaksAt_38 (Nat.le_of_ble_eq_true rfl) ?_
  refine BS_iload dX8_breaksAt_40 ?_
  refine BS_if_le (tgt := 52) dX8_breaksAt_42 (by decide) ?_ ?_
  · refine BS_aload_n dX8_breaksAt_52 rfl ?_
    refine BS_iload_n dX8_breaksAt_53 rfl ?_
    refine BS_iload_n dX8_breaksAt_54 rfl ?_
    refine BS_iload_n dX8_breaksAt_55 rfl ?_
    refine BS_iload dX8_breaksAt_56 ?_
    refine BS_iload dX8_breaksAt_58 ?_
    refine BS_iload dX8_breaksAt_60 ?_
    refine BS_call (run_V dX8_breaksAt_62 con_X8_lays (ci := 15) rfl rfl q2119 q2121 qs92 q146 q2122 pd_X8_lays ⟨Nat.le_of_ble_eq_true rfl, Nat.le_of_ble_eq_true rfl⟩) BV_no ?_
    refine BS_aload_n dX8_breaksAt_65 rfl ?_
    refine BS_call (run_V dX8_breaksAt_66 con_X8_comes (ci := 15) rfl rfl q2151 q2153 qs98 q146 q2154 pd_X8_comes ⟨Nat.le_of_ble_eq_true rfl, Nat.le_of_ble_eq_true rfl⟩) BV_no ?_
    refine BS_pop dX8_breaksAt_69 ?_
    refine BS_aload_n dX8_breaksAt_70 rfl ?_
    refine BS_aload_n dX8_breaksAt_71 rfl ?_
    refine BS_gfi f_X8_419 dX8_breaksAt_72 ?_
    refine BS_iconst dX8_breaksAt_75 (by decide) ?_
    refine BS_icmp_ne (tgt := 84) dX8_breaksAt_76 (by decide) ?_ ?_
    · refine BS_bipush dX8_breaksAt_84 (by decide) ?_
      refine BS_aload_n dX8_breaksAt_86 rfl ?_
      refine BS_gfi f_X8_419 dX8_breaksAt_87 ?_
      refine BS_imul dX8_breaksAt_90 ?_
      refine BS_aload_n dX8_breaksAt_91 rfl ?_
      refine BS_gfi f_X8_427 dX8_breaksAt_92 ?_
      refine BS_iadd dX8_breaksAt_95 ?_
      exact bs_X8_breaksAt_b96
    · refine BS_bipush dX8_breaksAt_79 (by decide) ?_
      refine BS_goto (tgt := 96) dX8_breaksAt_81 (by decide) ?_
      exact bs_X8_breaksAt_b96
  · refine BS_aload_n dX8_breaksAt_45 rfl ?_
    refine BS_iload dX8_breaksAt_46 ?_
    refine BS_call (run_V dX8_breaksAt_48 con_X8_refused (ci := 15) rfl rfl q1749 q1751 qs58 q146 q1752 pd_X8_refused ⟨Nat.le_of_ble_eq_true rfl, Nat.le_of_ble_eq_true rfl⟩) BV_no ?_
    exact BS_ireturn dX8_breaksAt_51 rfl
noncomputable def F_X8_breaksAt_b28 : KK OO :=
  op_push (.int 0) <| F_X8_breaksAt_b29
theorem bs_X8_breaksAt_b28 : B_S M_X8_breaksAt 28 (F_X8_breaksAt_b28) z_O k_O := by
  unfold F_X8_breaksAt_b28
  refine BS_iconst dX8_breaksAt_28 (by decide) ?_
  exact bs_X8_breaksAt_b29
noncomputable def F_X8_breaksAt_b0 : KK OO :=
  op_ald 0 <| op_push (.int 0) <| op_pfi .int [25] 98 <| op_ald 0 <| op_ald 0 <| op_ild 1 <| op_call 2 (f_kd 25 F_X8_isBone) kx_no <| op_ieq (F_X8_breaksAt_b28) (op_ald 0 <| op_ild 2 <| op_ild 4 <| op_call 3 (f_kd 25 F_X8_isPair) kx_no <| op_ieq (F_X8_breaksAt_b28) (op_push (.int 1) <| F_X8_breaksAt_b29))
theorem bs_X8_breaksAt_b0 : B_S M_X8_breaksAt 0 (F_X8_breaksAt_b0) z_O k_O := by
  unfold F_X8_breaksAt_b0
  refine BS_aload_n dX8_breaksAt_0 rfl ?_
  refine BS_iconst dX8_breaksAt_1 (by decide) ?_
  refine BS_pfi p_X8_53 (fun h => by cases h) dX8_breaksAt_2 ?_
  refine BS_aload_n dX8_breaksAt_5 rfl ?_
  refine BS_aload_n dX8_breaksAt_6 rfl ?_
  refine BS_iload_n dX8_breaksAt_7 rfl ?_
  refine BS_call (run_V dX8_breaksAt_8 con_X8_isBone (ci := 15) rfl rfl q2079 q2081 qs87 q146 q2082 pd_X8_isBone ⟨Nat.le_of_ble_eq_true rfl, Nat.le_of_ble_eq_true rfl⟩) BV_no ?_
  refine BS_if_eq (tgt := 28) dX8_breaksAt_11 (by decide) ?_ ?_
  · exact bs_X8_breaksAt_b28
  · refine BS_aload_n dX8_breaksAt_14 rfl ?_
    refine BS_iload_n dX8_breaksAt_15 rfl ?_
    refine BS_iload dX8_breaksAt_16 ?_
    refine BS_call (run_V dX8_breaksAt_18 con_X8_isPair (ci := 15) rfl rfl q2135 q2137 qs95 q146 q2138 pd_X8_isPair ⟨Nat.le_of_ble_eq_true rfl, Nat.le_of_ble_eq_true rfl⟩) BV_no ?_
    refine BS_if_eq (tgt := 28) dX8_breaksAt_21 (by decide) ?_ ?_
    · exact bs_X8_breaksAt_b28
    · refine BS_iconst dX8_breaksAt_24 (by decide) ?_
      refine BS_goto (tgt := 29) dX8_breaksAt_25 (by decide) ?_
      exact bs_X8_breaksAt_b29
noncomputable def F_X8_breaksAt : FF := mk_F 8 F_X8_breaksAt_b0
theorem con_X8_breaksAt : Con_ yX8_breaksAt (ws_ yX8_breaksAt cX8_breaksAt 8 (some .int)) 5 121 F_X8_breaksAt := Con_of (by decide +kernel) bs_X8_breaksAt_b0
/-- LongerHalfModel.flawed(IIIIIIII)I -/
abbrev M_X8_flawed : MM := (yX8_flawed, cX8_flawed, (some .int), 5, 121, 10, [])
theorem pd_X8_flawed : (yX8_flawed.cls ≠ "java/lang/invoke/MethodHandle" ∧ yX8_flawed.cls ≠ "java/lang/invoke/VarHandle") ∧ (parseMethodDescriptor yX8_flawed.desc).map (fun d => d.parameters.length) = some 8 := ⟨⟨by decide +kernel, by decide +kernel⟩, by decide +kernel⟩
noncomputable def F_X8_flawed_b33 : KK OO :=
  op_ild 1 <| op_ild 3 <| op_ild 5 <| op_ild 6 <| op_call 6 (f_kd 25 F_X8_refusesPull) kx_no <| op_ist 9 <| op_ild 9 <| op_ile (op_ald 0 <| op_ild 1 <| op_ild 2 <| op_ild 3 <| op_ild 4 <| op_ild 5 <| op_ild 6 <| op_call 7 (f_kd 25 F_X8_lays) kx_no <| op_ald 0 <| op_ild 7 <| op_pfi .int [25] 121 <| op_ald 0 <| op_ild 8 <| op_pfi .int [25] 122 <| op_ald 0 <| op_ald 0 <| op_call 1 (f_kd 25 F_X8_comes) kx_no <| op_call 2 (f_kd 25 F_X8_good) kx_no <| op_iret .int) (op_ald 0 <| op_ild 9 <| op_call 2 (f_kd 25 F_X8_refused) kx_no <| op_iret .int)
theorem bs_X8_flawed_b33 : B_S M_X8_flawed 33 (F_X8_flawed_b33) z_O k_O := by
  unfold F_X8_flawed_b33
  refine BS_iload_n dX8_flawed_33 rfl ?_
  refine BS_iload_n dX8_flawed_34 rfl ?_
  refine BS_iload dX8_flawed_35 ?_
  refine BS_iload dX8_flawed_37 ?_
  refine BS_call (run_V dX8_flawed_39 con_X8_refusesPull (ci := 15) rfl rfl q2139 q2141 qs96 q146 q2142 pd_X8_refusesPull ⟨Nat.le_of_ble_eq_true rfl, Nat.le_of_ble_eq_true rfl⟩) BV_no ?_
  refine BS_istore dX8_flawed_42 (Nat.le_of_ble_eq_true rfl) ?_
  refine BS_iload dX8_flawed_44 ?_
  refine BS_if_le (tgt := 56) dX8_flawed_46 (by decide) ?_ ?_
  · refine BS_aload_n dX8_flawed_56 rfl ?_
    refine BS_iload_n dX8_flawed_57 rfl ?_
    refine BS_iload_n dX8_flawed_58 rfl ?_
    refine BS_iload_n dX8_flawed_59 rfl ?_
    refine BS_iload dX8_flawed_60 ?_
    refine BS_iload dX8_flawed_62 ?_
    refine BS_iload dX8_flawed_64 ?_
    refine BS_call (run_V dX8_flawed_66 con_X8_lays (ci := 15) rfl rfl q2119 q2121 qs92 q146 q2122 pd_X8_lays ⟨Nat.le_of_ble_eq_true rfl, Nat.le_of_ble_eq_true rfl⟩) BV_no ?_
    refine BS_aload_n dX8_flawed_69 rfl ?_
    refine BS_iload dX8_flawed_70 ?_
    refine BS_pfi p_X8_389 (fun h => by cases h) dX8_flawed_72 ?_
    refine BS_aload_n dX8_flawed_75 rfl ?_
    refine BS_iload dX8_flawed_76 ?_
    refine BS_pfi p_X8_403 (fun h => by cases h) dX8_flawed_78 ?_
    refine BS_aload_n dX8_flawed_81 rfl ?_
    refine BS_aload_n dX8_flawed_82 rfl ?_
    refine BS_call (run_V dX8_flawed_83 con_X8_comes (ci := 15) rfl rfl q2151 q2153 qs98 q146 q2154 pd_X8_comes ⟨Nat.le_of_ble_eq_true rfl, Nat.le_of_ble_eq_true rfl⟩) BV_no ?_
    refine BS_call (run_V dX8_flawed_86 con_X8_good (ci := 15) rfl rfl q2063 q2065 qs86 q146 q2066 pd_X8_good ⟨Nat.le_of_ble_eq_true rfl, Nat.le_of_ble_eq_true rfl⟩) BV_no ?_
    exact BS_ireturn dX8_flawed_89 rfl
  · refine BS_aload_n dX8_flawed_49 rfl ?_
    refine BS_iload dX8_flawed_50 ?_
    refine BS_call (run_V dX8_flawed_52 con_X8_refused (ci := 15) rfl rfl q1749 q1751 qs58 q146 q1752 pd_X8_refused ⟨Nat.le_of_ble_eq_true rfl, Nat.le_of_ble_eq_true rfl⟩) BV_no ?_
    exact BS_ireturn dX8_flawed_55 rfl
noncomputable def F_X8_flawed_b32 : KK OO :=
  op_push (.int 0) <| F_X8_flawed_b33
theorem bs_X8_flawed_b32 : B_S M_X8_flawed 32 (F_X8_flawed_b32) z_O k_O := by
  unfold F_X8_flawed_b32
  refine BS_iconst dX8_flawed_32 (by decide) ?_
  exact bs_X8_flawed_b33
noncomputable def F_X8_flawed_b0 : KK OO :=
  op_ald 0 <| op_push (.int 0) <| op_pfi .int [25] 98 <| op_ald 0 <| op_ald 0 <| op_ild 1 <| op_ild 7 <| op_ild 8 <| op_call 4 (f_kd 25 F_X8_isPlace) kx_no <| op_ieq (F_X8_flawed_b32) (op_ald 0 <| op_ild 2 <| op_ild 4 <| op_call 3 (f_kd 25 F_X8_isPair) kx_no <| op_ieq (F_X8_flawed_b32) (op_push (.int 1) <| F_X8_flawed_b33))
theorem bs_X8_flawed_b0 : B_S M_X8_flawed 0 (F_X8_flawed_b0) z_O k_O := by
  unfold F_X8_flawed_b0
  refine BS_aload_n dX8_flawed_0 rfl ?_
  refine BS_iconst dX8_flawed_1 (by decide) ?_
  refine BS_pfi p_X8_53 (fun h => by cases h) dX8_flawed_2 ?_
  refine BS_aload_n dX8_flawed_5 rfl ?_
  refine BS_aload_n dX8_flawed_6 rfl ?_
  refine BS_iload_n dX8_flawed_7 rfl ?_
  refine BS_iload dX8_flawed_8 ?_
  refine BS_iload dX8_flawed_10 ?_
  refine BS_call (run_V dX8_flawed_12 con_X8_isPlace (ci := 15) rfl rfl q2091 q2093 qs88 q146 q2094 pd_X8_isPlace ⟨Nat.le_of_ble_eq_true rfl, Nat.le_of_ble_eq_true rfl⟩) BV_no ?_
  refine BS_if_eq (tgt := 32) dX8_flawed_15 (by decide) ?_ ?_
  · exact bs_X8_flawed_b32
  · refine BS_aload_n dX8_flawed_18 rfl ?_
    refine BS_iload_n dX8_flawed_19 rfl ?_
    refine BS_iload dX8_flawed_20 ?_
    refine BS_call (run_V dX8_flawed_22 con_X8_isPair (ci := 15) rfl rfl q2135 q2137 qs95 q146 q2138 pd_X8_isPair ⟨Nat.le_of_ble_eq_true rfl, Nat.le_of_ble_eq_true rfl⟩) BV_no ?_
    refine BS_if_eq (tgt := 32) dX8_flawed_25 (by decide) ?_ ?_
    · exact bs_X8_flawed_b32
    · refine BS_iconst dX8_flawed_28 (by decide) ?_
      refine BS_goto (tgt := 33) dX8_flawed_29 (by decide) ?_
      exact bs_X8_flawed_b33
noncomputable def F_X8_flawed : FF := mk_F 10 F_X8_flawed_b0
theorem con_X8_flawed : Con_ yX8_flawed (ws_ yX8_flawed cX8_flawed 10 (some .int)) 5 121 F_X8_flawed := Con_of (by decide +kernel) bs_X8_flawed_b0
/-- LongerHalfModel.allPlaces()I -/
abbrev M_X8_allPlaces : MM := (yX8_allPlaces, cX8_allPlaces, (some .int), 1, 22, 1, [])
theorem pd_X8_allPlaces : (yX8_allPlaces.cls ≠ "java/lang/invoke/MethodHandle" ∧ yX8_allPlaces.cls ≠ "java/lang/invoke/VarHandle") ∧ (parseMethodDescriptor yX8_allPlaces.desc).map (fun d => d.parameters.length) = some 0 := ⟨⟨by decide +kernel, by decide +kernel⟩, by decide +kernel⟩
noncomputable def F_X8_allPlaces_b0 : KK OO :=
  op_ald 0 <| op_gfr [25] 101 <| op_ald 0 <| op_gfi [25] 119 <| op_push (.int 0) <| op_call 3 (f_kd 26 F_X20_many) kx_no <| op_ald 0 <| op_gfr [25] 101 <| op_ald 0 <| op_gfi [25] 119 <| op_push (.int 1) <| op_call 3 (f_kd 26 F_X20_many) kx_no <| op_i2 (fun x y => x + y) <| op_iret .int
theorem bs_X8_allPlaces_b0 : B_S M_X8_allPlaces 0 (F_X8_allPlaces_b0) z_O k_O := by
  unfold F_X8_allPlaces_b0
  refine BS_aload_n dX8_allPlaces_0 rfl ?_
  refine BS_gfr f_X8_373 dX8_allPlaces_1 ?_
  refine BS_aload_n dX8_allPlaces_4 rfl ?_
  refine BS_gfi f_X8_381 dX8_allPlaces_5 ?_
  refine BS_iconst dX8_allPlaces_8 (by decide) ?_
  refine BS_call (run_V dX8_allPlaces_9 con_X20_many (ci := 16) rfl rfl q2083 q2084 q2085 q163 q2086 pd_X20_many ⟨Nat.le_of_ble_eq_true rfl, Nat.le_of_ble_eq_true rfl⟩) BV_no ?_
  refine BS_aload_n dX8_allPlaces_12 rfl ?_
  refine BS_gfr f_X8_373 dX8_allPlaces_13 ?_
  refine BS_aload_n dX8_allPlaces_16 rfl ?_
  refine BS_gfi f_X8_381 dX8_allPlaces_17 ?_
  refine BS_iconst dX8_allPlaces_20 (by decide) ?_
  refine BS_call (run_V dX8_allPlaces_21 con_X20_many (ci := 16) rfl rfl q2083 q2084 q2085 q163 q2086 pd_X20_many ⟨Nat.le_of_ble_eq_true rfl, Nat.le_of_ble_eq_true rfl⟩) BV_no ?_
  refine BS_iadd dX8_allPlaces_24 ?_
  exact BS_ireturn dX8_allPlaces_25 rfl
noncomputable def F_X8_allPlaces : FF := mk_F 1 F_X8_allPlaces_b0
theorem con_X8_allPlaces : Con_ yX8_allPlaces (ws_ yX8_allPlaces cX8_allPlaces 1 (some .int)) 1 22 F_X8_allPlaces := Con_of (by decide +kernel) bs_X8_allPlaces_b0
/-- LongerHalfModel.common(JJ)J -/
abbrev M_X8_common : MM := (yX8_common, cX8_common, (some .long), 0, 0, 10, [])
theorem pd_X8_common : (yX8_common.cls ≠ "java/lang/invoke/MethodHandle" ∧ yX8_common.cls ≠ "java/lang/invoke/VarHandle") ∧ (parseMethodDescriptor yX8_common.desc).map (fun d => d.parameters.length) = some 2 := ⟨⟨by decide +kernel, by decide +kernel⟩, by decide +kernel⟩
noncomputable def F_X8_common_l6 : KK (L_S ⊕ OO) :=
  op_lld 6 <| op_push (.long 0) <| op_lcmp <| op_ieq (op_exit <| op_lld 4 <| op_lret) (op_lld 4 <| op_lld 6 <| op_l2d (fun x y => x - x / y * y) <| op_lst 8 <| op_lld 6 <| op_lst 4 <| op_lld 8 <| op_lst 6 <| op_back)
theorem bs_X8_common_l6 : B_S M_X8_common 6 (F_X8_common_l6) (z_L z_O) (k_L 6 k_O) := by
  unfold F_X8_common_l6
  refine BS_lload dX8_common_6 ?_
  refine BS_lconst dX8_common_8 (by decide) ?_
  refine BS_lcmp dX8_common_9 ?_
  refine BS_if_eq (tgt := 31) dX8_common_10 (by decide) ?_ ?_
  · refine BS_exit ?_
    refine BS_lload dX8_common_31 ?_
    exact BS_lreturn dX8_common_33 rfl
  · refine BS_lload dX8_common_13 ?_
    refine BS_lload dX8_common_15 ?_
    refine BS_lrem dX8_common_17 ?_
    refine BS_lstore dX8_common_18 (Nat.le_of_ble_eq_true rfl) ?_
    refine BS_lload dX8_common_20 ?_
    refine BS_lstore dX8_common_22 (Nat.le_of_ble_eq_true rfl) ?_
    refine BS_lload dX8_common_24 ?_
    refine BS_lstore dX8_common_26 (Nat.le_of_ble_eq_true rfl) ?_
    refine BS_goto (tgt := 6) dX8_common_28 (by decide) ?_
    exact BS_back
noncomputable def F_X8_common_b6 : KK OO := op_loop (F_X8_common_l6)
theorem bs_X8_common_b6 : B_S M_X8_common 6 (F_X8_common_b6) z_O k_O := BS_loop (bs_X8_common_l6)
noncomputable def F_X8_common_b0 : KK OO :=
  op_lld 0 <| op_lst 4 <| op_lld 2 <| op_lst 6 <| F_X8_common_b6
theorem bs_X8_common_b0 : B_S M_X8_common 0 (F_X8_common_b0) z_O k_O := by
  unfold F_X8_common_b0
  refine BS_lload_n dX8_common_0 rfl ?_
  refine BS_lstore dX8_common_1 (Nat.le_of_ble_eq_true rfl) ?_
  refine BS_lload_n dX8_common_3 rfl ?_
  refine BS_lstore dX8_common_4 (Nat.le_of_ble_eq_true rfl) ?_
  exact bs_X8_common_b6
noncomputable def F_X8_common : FF := mk_F 10 F_X8_common_b0
theorem con_X8_common : Con_ yX8_common (ws_ yX8_common cX8_common 10 (some .long)) 0 0 F_X8_common := Con_of (by decide +kernel) bs_X8_common_b0
/-- LongerHalfModel.fraction(JJZ)J -/
abbrev M_X8_fraction : MM := (yX8_fraction, cX8_fraction, (some .long), 1, 29, 6, [])
theorem pd_X8_fraction : (yX8_fraction.cls ≠ "java/lang/invoke/MethodHandle" ∧ yX8_fraction.cls ≠ "java/lang/invoke/VarHandle") ∧ (parseMethodDescriptor yX8_fraction.desc).map (fun d => d.parameters.length) = some 3 := ⟨⟨by decide +kernel, by decide +kernel⟩, by decide +kernel⟩
noncomputable def F_X8_fraction_b16 : KK OO :=
  op_lld 1 <| op_lld 3 <| op_call 2 F_X8_common kx_no <| op_l2d (fun x y => x / y) <| op_lret
theorem bs_X8_fraction_b16 : B_S M_X8_fraction 16 (F_X8_fraction_b16) z_O k_O := by
  unfold F_X8_fraction_b16
  refine BS_lload_n dX8_fraction_16 rfl ?_
  refine BS_lload_n dX8_fraction_17 rfl ?_
  refine BS_call (run_S dX8_fraction_18 con_X8_common q2193 q2194 q146 q2195 pd_X8_common ⟨Nat.le_of_ble_eq_true rfl, Nat.le_of_ble_eq_true rfl⟩) BV_no ?_
  refine BS_ldiv dX8_fraction_21 ?_
  exact BS_lreturn dX8_fraction_22 rfl
noncomputable def F_X8_fraction_b0 : KK OO :=
  op_ald 0 <| op_push (.int 0) <| op_call 2 (f_kd 25 F_X8_good) kx_no <| op_pop <| op_ild 5 <| op_ieq (op_lld 1 <| F_X8_fraction_b16) (op_lld 3 <| F_X8_fraction_b16)
theorem bs_X8_fraction_b0 : B_S M_X8_fraction 0 (F_X8_fraction_b0) z_O k_O := by
  unfold F_X8_fraction_b0
  refine BS_aload_n dX8_fraction_0 rfl ?_
  refine BS_iconst dX8_fraction_1 (by decide) ?_
  refine BS_call (run_V dX8_fraction_2 con_X8_good (ci := 15) rfl rfl q2063 q2065 qs86 q146 q2066 pd_X8_good ⟨Nat.le_of_ble_eq_true rfl, Nat.le_of_ble_eq_true rfl⟩) BV_no ?_
  refine BS_pop dX8_fraction_5 ?_
  refine BS_iload dX8_fraction_6 ?_
  refine BS_if_eq (tgt := 15) dX8_fraction_8 (by decide) ?_ ?_
  · refine BS_lload_n dX8_fraction_15 rfl ?_
    exact bs_X8_fraction_b16
  · refine BS_lload_n dX8_fraction_11 rfl ?_
    refine BS_goto (tgt := 16) dX8_fraction_12 (by decide) ?_
    exact bs_X8_fraction_b16
noncomputable def F_X8_fraction : FF := mk_F 6 F_X8_fraction_b0
theorem con_X8_fraction : Con_ yX8_fraction (ws_ yX8_fraction cX8_fraction 6 (some .long)) 1 29 F_X8_fraction := Con_of (by decide +kernel) bs_X8_fraction_b0
/-- LongerHalfModel.flaws(I)V -/
abbrev M_X8_flaws : MM := (yX8_flaws, cX8_flaws, none, 1, 22, 2, [])
theorem pd_X8_flaws : (yX8_flaws.cls ≠ "java/lang/invoke/MethodHandle" ∧ yX8_flaws.cls ≠ "java/lang/invoke/VarHandle") ∧ (parseMethodDescriptor yX8_flaws.desc).map (fun d => d.parameters.length) = some 1 := ⟨⟨by decide +kernel, by decide +kernel⟩, by decide +kernel⟩
noncomputable def F_X8_flaws_b51 : KK OO :=
  op_pfi .int [25] 122 <| op_vret
theorem bs_X8_flaws_b51 : B_S M_X8_flaws 51 (F_X8_flaws_b51) z_O k_O := by
  unfold F_X8_flaws_b51
  refine BS_pfi p_X8_403 (fun h => by cases h) dX8_flaws_51 ?_
  exact BS_return dX8_flaws_54 rfl
noncomputable def F_X8_flaws_b22 : KK OO :=
  op_pfi .int [25] 121 <| op_ald 0 <| op_ald 0 <| op_gfi [25] 121 <| op_ine (op_ild 1 <| op_ald 0 <| op_gfr [25] 101 <| op_ald 0 <| op_gfi [25] 119 <| op_push (.int 0) <| op_call 3 (f_kd 26 F_X20_many) kx_no <| op_i2 (fun x y => x - y) <| F_X8_flaws_b51) (op_ild 1 <| F_X8_flaws_b51)
theorem bs_X8_flaws_b22 : B_S M_X8_flaws 22 (F_X8_flaws_b22) z_O k_O := by
  unfold F_X8_flaws_b22
  refine BS_pfi p_X8_389 (fun h => by cases h) dX8_flaws_22 ?_
  refine BS_aload_n dX8_flaws_25 rfl ?_
  refine BS_aload_n dX8_flaws_26 rfl ?_
  refine BS_gfi f_X8_389 dX8_flaws_27 ?_
  refine BS_if_ne (tgt := 37) dX8_flaws_30 (by decide) ?_ ?_
  · refine BS_iload_n dX8_flaws_37 rfl ?_
    refine BS_aload_n dX8_flaws_38 rfl ?_
    refine BS_gfr f_X8_373 dX8_flaws_39 ?_
    refine BS_aload_n dX8_flaws_42 rfl ?_
    refine BS_gfi f_X8_381 dX8_flaws_43 ?_
    refine BS_iconst dX8_flaws_46 (by decide) ?_
    refine BS_call (run_V dX8_flaws_47 con_X20_many (ci := 16) rfl rfl q2083 q2084 q2085 q163 q2086 pd_X20_many ⟨Nat.le_of_ble_eq_true rfl, Nat.le_of_ble_eq_true rfl⟩) BV_no ?_
    refine BS_isub dX8_flaws_50 ?_
    exact bs_X8_flaws_b51
  · refine BS_iload_n dX8_flaws_33 rfl ?_
    refine BS_goto (tgt := 51) dX8_flaws_34 (by decide) ?_
    exact bs_X8_flaws_b51
noncomputable def F_X8_flaws_b0 : KK OO :=
  op_ald 0 <| op_ild 1 <| op_ald 0 <| op_gfr [25] 101 <| op_ald 0 <| op_gfi [25] 119 <| op_push (.int 0) <| op_call 3 (f_kd 26 F_X20_many) kx_no <| op_cge (op_push (.int 1) <| F_X8_flaws_b22) (op_push (.int 0) <| F_X8_flaws_b22)
theorem bs_X8_flaws_b0 : B_S M_X8_flaws 0 (F_X8_flaws_b0) z_O k_O := by
  unfold F_X8_flaws_b0
  refine BS_aload_n dX8_flaws_0 rfl ?_
  refine BS_iload_n dX8_flaws_1 rfl ?_
  refine BS_aload_n dX8_flaws_2 rfl ?_
  refine BS_gfr f_X8_373 dX8_flaws_3 ?_
  refine BS_aload_n dX8_flaws_6 rfl ?_
  refine BS_gfi f_X8_381 dX8_flaws_7 ?_
  refine BS_iconst dX8_flaws_10 (by decide) ?_
  refine BS_call (run_V dX8_flaws_11 con_X20_many (ci := 16) rfl rfl q2083 q2084 q2085 q163 q2086 pd_X20_many ⟨Nat.le_of_ble_eq_true rfl, Nat.le_of_ble_eq_true rfl⟩) BV_no ?_
  refine BS_icmp_ge (tgt := 21) dX8_flaws_14 (by decide) ?_ ?_
  · refine BS_iconst dX8_flaws_21 (by decide) ?_
    exact bs_X8_flaws_b22
  · refine BS_iconst dX8_flaws_17 (by decide) ?_
    refine BS_goto (tgt := 22) dX8_flaws_18 (by decide) ?_
    exact bs_X8_flaws_b22
noncomputable def F_X8_flaws : FF := mk_F 2 F_X8_flaws_b0
theorem con_X8_flaws : Con_ yX8_flaws (ws_ yX8_flaws cX8_flaws 2 none) 1 22 F_X8_flaws := Con_of (by decide +kernel) bs_X8_flaws_b0
/-- LongerHalfModel.oddsOf(I)J -/
abbrev M_X8_oddsOf : MM := (yX8_oddsOf, cX8_oddsOf, (some .long), 5, 121, 6, [])
theorem pd_X8_oddsOf : (yX8_oddsOf.cls ≠ "java/lang/invoke/MethodHandle" ∧ yX8_oddsOf.cls ≠ "java/lang/invoke/VarHandle") ∧ (parseMethodDescriptor yX8_oddsOf.desc).map (fun d => d.parameters.length) = some 1 := ⟨⟨by decide +kernel, by decide +kernel⟩, by decide +kernel⟩
noncomputable def F_X8_oddsOf_l41 : KK (L_S ⊕ OO) :=
  op_ild 5 <| op_ild 2 <| op_cge (op_exit <| op_ald 0 <| op_push (.int (-1)) <| op_pfi .int [25] 121 <| op_lld 3 <| op_lret) (op_ald 0 <| op_ild 5 <| op_call 2 (f_kd 25 F_X8_flaws) kx_no <| op_lld 3 <| op_ald 0 <| op_call 1 (f_kd 25 F_X8_comes) kx_no <| op_ild 1 <| op_cne (op_push (.long 0) <| op_l2 (fun x y => x + y) <| op_lst 3 <| op_iinc 5 1 <| op_back) (op_ald 0 <| op_gfr [25] 101 <| op_gfi [26] 141 <| op_i2l <| op_l2 (fun x y => x + y) <| op_lst 3 <| op_iinc 5 1 <| op_back))
theorem bs_X8_oddsOf_l41 : B_S M_X8_oddsOf 41 (F_X8_oddsOf_l41) (z_L z_O) (k_L 41 k_O) := by
  unfold F_X8_oddsOf_l41
  refine BS_iload dX8_oddsOf_41 ?_
  refine BS_iload_n dX8_oddsOf_43 rfl ?_
  refine BS_icmp_ge (tgt := 82) dX8_oddsOf_44 (by decide) ?_ ?_
  · refine BS_exit ?_
    refine BS_aload_n dX8_oddsOf_82 rfl ?_
    refine BS_iconst dX8_oddsOf_83 (by decide) ?_
    refine BS_pfi p_X8_389 (fun h => by cases h) dX8_oddsOf_84 ?_
    refine BS_lload_n dX8_oddsOf_87 rfl ?_
    exact BS_lreturn dX8_oddsOf_88 rfl
  · refine BS_aload_n dX8_oddsOf_47 rfl ?_
    refine BS_iload dX8_oddsOf_48 ?_
    refine BS_call (run_V dX8_oddsOf_50 con_X8_flaws (ci := 15) rfl rfl q2185 q2187 qs103 q146 q2188 pd_X8_flaws ⟨Nat.le_of_ble_eq_true rfl, Nat.le_of_ble_eq_true rfl⟩) BV_no ?_
    refine BS_lload_n dX8_oddsOf_53 rfl ?_
    refine BS_aload_n dX8_oddsOf_54 rfl ?_
    refine BS_call (run_V dX8_oddsOf_55 con_X8_comes (ci := 15) rfl rfl q2151 q2153 qs98 q146 q2154 pd_X8_comes ⟨Nat.le_of_ble_eq_true rfl, Nat.le_of_ble_eq_true rfl⟩) BV_no ?_
    refine BS_iload_n dX8_oddsOf_58 rfl ?_
    refine BS_icmp_ne (tgt := 73) dX8_oddsOf_59 (by decide) ?_ ?_
    · refine BS_lconst dX8_oddsOf_73 (by decide) ?_
      refine BS_ladd dX8_oddsOf_74 ?_
      refine BS_lstore_n dX8_oddsOf_75 rfl (Nat.le_of_ble_eq_true rfl) ?_
      refine BS_iinc dX8_oddsOf_76 (by decide) (Nat.le_of_ble_eq_true rfl) ?_
      refine BS_goto (tgt := 41) dX8_oddsOf_79 (by decide) ?_
      exact BS_back
    · refine BS_aload_n dX8_oddsOf_62 rfl ?_
      refine BS_gfr f_X8_373 dX8_oddsOf_63 ?_
      refine BS_gfi f_X8_258 dX8_oddsOf_66 ?_
      refine BS_i2l dX8_oddsOf_69 ?_
      refine BS_goto (tgt := 74) dX8_oddsOf_70 (by decide) ?_
      refine BS_ladd dX8_oddsOf_74 ?_
      refine BS_lstore_n dX8_oddsOf_75 rfl (Nat.le_of_ble_eq_true rfl) ?_
      refine BS_iinc dX8_oddsOf_76 (by decide) (Nat.le_of_ble_eq_true rfl) ?_
      refine BS_goto (tgt := 41) dX8_oddsOf_79 (by decide) ?_
      exact BS_back
noncomputable def F_X8_oddsOf_b41 : KK OO := op_loop (F_X8_oddsOf_l41)
theorem bs_X8_oddsOf_b41 : B_S M_X8_oddsOf 41 (F_X8_oddsOf_b41) z_O k_O := BS_loop (bs_X8_oddsOf_l41)
noncomputable def F_X8_oddsOf_b37 : KK OO :=
  op_lst 3 <| op_push (.int 0) <| op_ist 5 <| F_X8_oddsOf_b41
theorem bs_X8_oddsOf_b37 : B_S M_X8_oddsOf 37 (F_X8_oddsOf_b37) z_O k_O := by
  unfold F_X8_oddsOf_b37
  refine BS_lstore_n dX8_oddsOf_37 rfl (Nat.le_of_ble_eq_true rfl) ?_
  refine BS_iconst dX8_oddsOf_38 (by decide) ?_
  refine BS_istore dX8_oddsOf_39 (Nat.le_of_ble_eq_true rfl) ?_
  exact bs_X8_oddsOf_b41
noncomputable def F_X8_oddsOf_b0 : KK OO :=
  op_ald 0 <| op_call 1 (f_kd 25 F_X8_allPlaces) kx_no <| op_ist 2 <| op_ald 0 <| op_push (.int (-1)) <| op_pfi .int [25] 121 <| op_ald 0 <| op_call 1 (f_kd 25 F_X8_comes) kx_no <| op_ild 1 <| op_cne (op_push (.long 0) <| F_X8_oddsOf_b37) (op_push (.long 100) <| op_ald 0 <| op_gfr [25] 101 <| op_gfi [26] 141 <| op_i2l <| op_l2 (fun x y => x - y) <| op_ild 2 <| op_i2l <| op_l2 (fun x y => x * y) <| F_X8_oddsOf_b37)
theorem bs_X8_oddsOf_b0 : B_S M_X8_oddsOf 0 (F_X8_oddsOf_b0) z_O k_O := by
  unfold F_X8_oddsOf_b0
  refine BS_aload_n dX8_oddsOf_0 rfl ?_
  refine BS_call (run_V dX8_oddsOf_1 con_X8_allPlaces (ci := 15) rfl rfl q2180 q2182 qs102 q146 q2183 pd_X8_allPlaces ⟨Nat.le_of_ble_eq_true rfl, Nat.le_of_ble_eq_true rfl⟩) BV_no ?_
  refine BS_istore_n dX8_oddsOf_4 rfl (Nat.le_of_ble_eq_true rfl) ?_
  refine BS_aload_n dX8_oddsOf_5 rfl ?_
  refine BS_iconst dX8_oddsOf_6 (by decide) ?_
  refine BS_pfi p_X8_389 (fun h => by cases h) dX8_oddsOf_7 ?_
  refine BS_aload_n dX8_oddsOf_10 rfl ?_
  refine BS_call (run_V dX8_oddsOf_11 con_X8_comes (ci := 15) rfl rfl q2151 q2153 qs98 q146 q2154 pd_X8_comes ⟨Nat.le_of_ble_eq_true rfl, Nat.le_of_ble_eq_true rfl⟩) BV_no ?_
  refine BS_iload_n dX8_oddsOf_14 rfl ?_
  refine BS_icmp_ne (tgt := 36) dX8_oddsOf_15 (by decide) ?_ ?_
  · refine BS_lconst dX8_oddsOf_36 (by decide) ?_
    exact bs_X8_oddsOf_b37
  · refine BS_ldc2 dX8_oddsOf_18 q2184 ?_
    refine BS_aload_n dX8_oddsOf_21 rfl ?_
    refine BS_gfr f_X8_373 dX8_oddsOf_22 ?_
    refine BS_gfi f_X8_258 dX8_oddsOf_25 ?_
    refine BS_i2l dX8_oddsOf_28 ?_
    refine BS_lsub dX8_oddsOf_29 ?_
    refine BS_iload_n dX8_oddsOf_30 rfl ?_
    refine BS_i2l dX8_oddsOf_31 ?_
    refine BS_lmul dX8_oddsOf_32 ?_
    refine BS_goto (tgt := 37) dX8_oddsOf_33 (by decide) ?_
    exact bs_X8_oddsOf_b37
noncomputable def F_X8_oddsOf : FF := mk_F 6 F_X8_oddsOf_b0
theorem con_X8_oddsOf : Con_ yX8_oddsOf (ws_ yX8_oddsOf cX8_oddsOf 6 (some .long)) 5 121 F_X8_oddsOf := Con_of (by decide +kernel) bs_X8_oddsOf_b0
/-- LongerHalfModel.odds(IIIIIIIZ)J -/
abbrev M_X8_odds : MM := (yX8_odds, cX8_odds, (some .long), 6, 146, 10, [])
theorem pd_X8_odds : (yX8_odds.cls ≠ "java/lang/invoke/MethodHandle" ∧ yX8_odds.cls ≠ "java/lang/invoke/VarHandle") ∧ (parseMethodDescriptor yX8_odds.desc).map (fun d => d.parameters.length) = some 8 := ⟨⟨by decide +kernel, by decide +kernel⟩, by decide +kernel⟩
noncomputable def F_X8_odds_b39 : KK OO :=
  op_ild 1 <| op_ild 3 <| op_ild 5 <| op_ild 6 <| op_call 6 (f_kd 25 F_X8_refusesPull) kx_no <| op_ist 9 <| op_ild 9 <| op_ile (op_ald 0 <| op_ild 1 <| op_ild 2 <| op_ild 3 <| op_ild 4 <| op_ild 5 <| op_ild 6 <| op_call 7 (f_kd 25 F_X8_lays) kx_no <| op_ald 0 <| op_ald 0 <| op_ild 7 <| op_call 2 (f_kd 25 F_X8_oddsOf) kx_no <| op_push (.long 100) <| op_ald 0 <| op_call 1 (f_kd 25 F_X8_allPlaces) kx_no <| op_i2l <| op_l2 (fun x y => x * y) <| op_ild 8 <| op_call 4 (f_kd 25 F_X8_fraction) kx_no <| op_lret) (op_ald 0 <| op_ild 9 <| op_call 2 (f_kd 25 F_X8_refused) kx_no <| op_i2l <| op_lret)
theorem bs_X8_odds_b39 : B_S M_X8_odds 39 (F_X8_odds_b39) z_O k_O := by
  unfold F_X8_odds_b39
  refine BS_iload_n dX8_odds_39 rfl ?_
  refine BS_iload_n dX8_odds_40 rfl ?_
  refine BS_iload dX8_odds_41 ?_
  refine BS_iload dX8_odds_43 ?_
  refine BS_call (run_V dX8_odds_45 con_X8_refusesPull (ci := 15) rfl rfl q2139 q2141 qs96 q146 q2142 pd_X8_refusesPull ⟨Nat.le_of_ble_eq_true rfl, Nat.le_of_ble_eq_true rfl⟩) BV_no ?_
  refine BS_istore dX8_odds_48 (Nat.le_of_ble_eq_true rfl) ?_
  refine BS_iload dX8_odds_50 ?_
  refine BS_if_le (tgt := 63) dX8_odds_52 (by decide) ?_ ?_
  · refine BS_aload_n dX8_odds_63 rfl ?_
    refine BS_iload_n dX8_odds_64 rfl ?_
    refine BS_iload_n dX8_odds_65 rfl ?_
    refine BS_iload_n dX8_odds_66 rfl ?_
    refine BS_iload dX8_odds_67 ?_
    refine BS_iload dX8_odds_69 ?_
    refine BS_iload dX8_odds_71 ?_
    refine BS_call (run_V dX8_odds_73 con_X8_lays (ci := 15) rfl rfl q2119 q2121 qs92 q146 q2122 pd_X8_lays ⟨Nat.le_of_ble_eq_true rfl, Nat.le_of_ble_eq_true rfl⟩) BV_no ?_
    refine BS_aload_n dX8_odds_76 rfl ?_
    refine BS_aload_n dX8_odds_77 rfl ?_
    refine BS_iload dX8_odds_78 ?_
    refine BS_call (run_V dX8_odds_80 con_X8_oddsOf (ci := 15) rfl rfl q2176 q2178 qs101 q146 q2179 pd_X8_oddsOf ⟨Nat.le_of_ble_eq_true rfl, Nat.le_of_ble_eq_true rfl⟩) BV_no ?_
    refine BS_ldc2 dX8_odds_83 q2184 ?_
    refine BS_aload_n dX8_odds_86 rfl ?_
    refine BS_call (run_V dX8_odds_87 con_X8_allPlaces (ci := 15) rfl rfl q2180 q2182 qs102 q146 q2183 pd_X8_allPlaces ⟨Nat.le_of_ble_eq_true rfl, Nat.le_of_ble_eq_true rfl⟩) BV_no ?_
    refine BS_i2l dX8_odds_90 ?_
    refine BS_lmul dX8_odds_91 ?_
    refine BS_iload dX8_odds_92 ?_
    refine BS_call (run_V dX8_odds_94 con_X8_fraction (ci := 15) rfl rfl q2189 q2191 qs104 q146 q2192 pd_X8_fraction ⟨Nat.le_of_ble_eq_true rfl, Nat.le_of_ble_eq_true rfl⟩) BV_no ?_
    exact BS_lreturn dX8_odds_97 rfl
  · refine BS_aload_n dX8_odds_55 rfl ?_
    refine BS_iload dX8_odds_56 ?_
    refine BS_call (run_V dX8_odds_58 con_X8_refused (ci := 15) rfl rfl q1749 q1751 qs58 q146 q1752 pd_X8_refused ⟨Nat.le_of_ble_eq_true rfl, Nat.le_of_ble_eq_true rfl⟩) BV_no ?_
    refine BS_i2l dX8_odds_61 ?_
    exact BS_lreturn dX8_odds_62 rfl
noncomputable def F_X8_odds_b38 : KK OO :=
  op_push (.int 0) <| F_X8_odds_b39
theorem bs_X8_odds_b38 : B_S M_X8_odds 38 (F_X8_odds_b38) z_O k_O := by
  unfold F_X8_odds_b38
  refine BS_iconst dX8_odds_38 (by decide) ?_
  exact bs_X8_odds_b39
noncomputable def F_X8_odds_b0 : KK OO :=
  op_ald 0 <| op_push (.int 0) <| op_pfi .int [25] 98 <| op_ald 0 <| op_ald 0 <| op_ild 1 <| op_call 2 (f_kd 25 F_X8_isBone) kx_no <| op_ieq (F_X8_odds_b38) (op_ald 0 <| op_ild 2 <| op_ild 4 <| op_call 3 (f_kd 25 F_X8_isPair) kx_no <| op_ieq (F_X8_odds_b38) (op_ild 7 <| op_push (.int 0) <| op_push (.int 3) <| op_call 3 F_X8_in kx_no <| op_ieq (F_X8_odds_b38) (op_push (.int 1) <| F_X8_odds_b39)))
theorem bs_X8_odds_b0 : B_S M_X8_odds 0 (F_X8_odds_b0) z_O k_O := by
  unfold F_X8_odds_b0
  refine BS_aload_n dX8_odds_0 rfl ?_
  refine BS_iconst dX8_odds_1 (by decide) ?_
  refine BS_pfi p_X8_53 (fun h => by cases h) dX8_odds_2 ?_
  refine BS_aload_n dX8_odds_5 rfl ?_
  refine BS_aload_n dX8_odds_6 rfl ?_
  refine BS_iload_n dX8_odds_7 rfl ?_
  refine BS_call (run_V dX8_odds_8 con_X8_isBone (ci := 15) rfl rfl q2079 q2081 qs87 q146 q2082 pd_X8_isBone ⟨Nat.le_of_ble_eq_true rfl, Nat.le_of_ble_eq_true rfl⟩) BV_no ?_
  refine BS_if_eq (tgt := 38) dX8_odds_11 (by decide) ?_ ?_
  · exact bs_X8_odds_b38
  · refine BS_aload_n dX8_odds_14 rfl ?_
    refine BS_iload_n dX8_odds_15 rfl ?_
    refine BS_iload dX8_odds_16 ?_
    refine BS_call (run_V dX8_odds_18 con_X8_isPair (ci := 15) rfl rfl q2135 q2137 qs95 q146 q2138 pd_X8_isPair ⟨Nat.le_of_ble_eq_true rfl, Nat.le_of_ble_eq_true rfl⟩) BV_no ?_
    refine BS_if_eq (tgt := 38) dX8_odds_21 (by decide) ?_ ?_
    · exact bs_X8_odds_b38
    · refine BS_iload dX8_odds_24 ?_
      refine BS_iconst dX8_odds_26 (by decide) ?_
      refine BS_iconst dX8_odds_27 (by decide) ?_
      refine BS_call (run_S dX8_odds_28 con_X8_in q1965 q1966 q146 q1967 pd_X8_in ⟨Nat.le_of_ble_eq_true rfl, Nat.le_of_ble_eq_true rfl⟩) BV_no ?_
      refine BS_if_eq (tgt := 38) dX8_odds_31 (by decide) ?_ ?_
      · exact bs_X8_odds_b38
      · refine BS_iconst dX8_odds_34 (by decide) ?_
        refine BS_goto (tgt := 39) dX8_odds_35 (by decide) ?_
        exact bs_X8_odds_b39
noncomputable def F_X8_odds : FF := mk_F 10 F_X8_odds_b0
theorem con_X8_odds : Con_ yX8_odds (ws_ yX8_odds cX8_odds 10 (some .long)) 6 146 F_X8_odds := Con_of (by decide +kernel) bs_X8_odds_b0
/-- LongerHalfModel.isChoice(IIII)Z -/
abbrev M_X8_isChoice : MM := (yX8_isChoice, cX8_isChoice, (some .boolean), 1, 22, 5, [])
theorem pd_X8_isChoice : (yX8_isChoice.cls ≠ "java/lang/invoke/MethodHandle" ∧ yX8_isChoice.cls ≠ "java/lang/invoke/VarHandle") ∧ (parseMethodDescriptor yX8_isChoice.desc).map (fun d => d.parameters.length) = some 4 := ⟨⟨by decide +kernel, by decide +kernel⟩, by decide +kernel⟩
noncomputable def F_X8_isChoice_b32 : KK OO :=
  op_push (.int 1) <| op_iret .boolean
theorem bs_X8_isChoice_b32 : B_S M_X8_isChoice 32 (F_X8_isChoice_b32) z_O k_O := by
  unfold F_X8_isChoice_b32
  refine BS_iconst dX8_isChoice_32 (by decide) ?_
  refine BS_goto (tgt := 37) dX8_isChoice_33 (by decide) ?_
  exact BS_ireturn dX8_isChoice_37 rfl
noncomputable def F_X8_isChoice_b0 : KK OO :=
  op_ild 4 <| op_push (.int 2) <| op_i2d (fun x y => x / y) <| op_ald 0 <| op_gfr [25] 101 <| op_ild 2 <| op_ild 3 <| op_call 3 (f_kd 26 F_X20_many) kx_no <| op_cge (op_push (.int 0) <| op_iret .boolean) (op_ild 4 <| op_push (.int 2) <| op_i2d (fun x y => x - x / y * y) <| op_push (.int 1) <| op_ceq (F_X8_isChoice_b32) (op_ald 0 <| op_ild 1 <| op_call 2 (f_kd 25 F_X8_isChild) kx_no <| op_ine (op_push (.int 0) <| op_iret .boolean) (F_X8_isChoice_b32)))
theorem bs_X8_isChoice_b0 : B_S M_X8_isChoice 0 (F_X8_isChoice_b0) z_O k_O := by
  unfold F_X8_isChoice_b0
  refine BS_iload dX8_isChoice_0 ?_
  refine BS_iconst dX8_isChoice_2 (by decide) ?_
  refine BS_idiv dX8_isChoice_3 ?_
  refine BS_aload_n dX8_isChoice_4 rfl ?_
  refine BS_gfr f_X8_373 dX8_isChoice_5 ?_
  refine BS_iload_n dX8_isChoice_8 rfl ?_
  refine BS_iload_n dX8_isChoice_9 rfl ?_
  refine BS_call (run_V dX8_isChoice_10 con_X20_many (ci := 16) rfl rfl q2083 q2084 q2085 q163 q2086 pd_X20_many ⟨Nat.le_of_ble_eq_true rfl, Nat.le_of_ble_eq_true rfl⟩) BV_no ?_
  refine BS_icmp_ge (tgt := 36) dX8_isChoice_13 (by decide) ?_ ?_
  · refine BS_iconst dX8_isChoice_36 (by decide) ?_
    exact BS_ireturn dX8_isChoice_37 rfl
  · refine BS_iload dX8_isChoice_16 ?_
    refine BS_iconst dX8_isChoice_18 (by decide) ?_
    refine BS_irem dX8_isChoice_19 ?_
    refine BS_iconst dX8_isChoice_20 (by decide) ?_
    refine BS_icmp_eq (tgt := 32) dX8_isChoice_21 (by decide) ?_ ?_
    · exact bs_X8_isChoice_b32
    · refine BS_aload_n dX8_isChoice_24 rfl ?_
      refine BS_iload_n dX8_isChoice_25 rfl ?_
      refine BS_call (run_V dX8_isChoice_26 con_X8_isChild (ci := 15) rfl rfl q2123 q2125 qs93 q146 q2126 pd_X8_isChild ⟨Nat.le_of_ble_eq_true rfl, Nat.le_of_ble_eq_true rfl⟩) BV_no ?_
      refine BS_if_ne (tgt := 36) dX8_isChoice_29 (by decide) ?_ ?_
      · refine BS_iconst dX8_isChoice_36 (by decide) ?_
        exact BS_ireturn dX8_isChoice_37 rfl
      · exact bs_X8_isChoice_b32
noncomputable def F_X8_isChoice : FF := mk_F 5 F_X8_isChoice_b0
theorem con_X8_isChoice : Con_ yX8_isChoice (ws_ yX8_isChoice cX8_isChoice 5 (some .boolean)) 1 22 F_X8_isChoice := Con_of (by decide +kernel) bs_X8_isChoice_b0
/-- LongerHalfModel.told(I)I -/
abbrev M_X8_told : MM := (yX8_told, cX8_told, (some .int), 0, 0, 1, [])
theorem pd_X8_told : (yX8_told.cls ≠ "java/lang/invoke/MethodHandle" ∧ yX8_told.cls ≠ "java/lang/invoke/VarHandle") ∧ (parseMethodDescriptor yX8_told.desc).map (fun d => d.parameters.length) = some 1 := ⟨⟨by decide +kernel, by decide +kernel⟩, by decide +kernel⟩
noncomputable def F_X8_told_b0 : KK OO :=
  op_push (.int 10) <| op_ild 0 <| op_push (.int 2) <| op_i2d (fun x y => x / y) <| op_push (.int 1) <| op_i2 (fun x y => x + y) <| op_i2 (fun x y => x * y) <| op_ild 0 <| op_push (.int 2) <| op_i2d (fun x y => x - x / y * y) <| op_i2 (fun x y => x + y) <| op_iret .int
theorem bs_X8_told_b0 : B_S M_X8_told 0 (F_X8_told_b0) z_O k_O := by
  unfold F_X8_told_b0
  refine BS_bipush dX8_told_0 (by decide) ?_
  refine BS_iload_n dX8_told_2 rfl ?_
  refine BS_iconst dX8_told_3 (by decide) ?_
  refine BS_idiv dX8_told_4 ?_
  refine BS_iconst dX8_told_5 (by decide) ?_
  refine BS_iadd dX8_told_6 ?_
  refine BS_imul dX8_told_7 ?_
  refine BS_iload_n dX8_told_8 rfl ?_
  refine BS_iconst dX8_told_9 (by decide) ?_
  refine BS_irem dX8_told_10 ?_
  refine BS_iadd dX8_told_11 ?_
  exact BS_ireturn dX8_told_12 rfl
noncomputable def F_X8_told : FF := mk_F 1 F_X8_told_b0
theorem con_X8_told : Con_ yX8_told (ws_ yX8_told cX8_told 1 (some .int)) 0 0 F_X8_told := Con_of (by decide +kernel) bs_X8_told_b0
/-- LongerHalfModel.best(IIII)I -/
abbrev M_X8_best : MM := (yX8_best, cX8_best, (some .int), 6, 146, 11, [])
theorem pd_X8_best : (yX8_best.cls ≠ "java/lang/invoke/MethodHandle" ∧ yX8_best.cls ≠ "java/lang/invoke/VarHandle") ∧ (parseMethodDescriptor yX8_best.desc).map (fun d => d.parameters.length) = some 4 := ⟨⟨by decide +kernel, by decide +kernel⟩, by decide +kernel⟩
noncomputable def F_X8_best_b22 : KK OO :=
  op_ald 0 <| op_push (.int 1) <| op_call 2 (f_kd 25 F_X8_refused) kx_no <| op_iret .int
theorem bs_X8_best_b22 : B_S M_X8_best 22 (F_X8_best_b22) z_O k_O := by
  unfold F_X8_best_b22
  refine BS_aload_n dX8_best_22 rfl ?_
  refine BS_iconst dX8_best_23 (by decide) ?_
  refine BS_call (run_V dX8_best_24 con_X8_refused (ci := 15) rfl rfl q1749 q1751 qs58 q146 q1752 pd_X8_refused ⟨Nat.le_of_ble_eq_true rfl, Nat.le_of_ble_eq_true rfl⟩) BV_no ?_
  exact BS_ireturn dX8_best_27 rfl
noncomputable def F_X8_best_b135 : KK (L_S ⊕ OO) :=
  op_ild 8 <| op_ist 5 <| op_lld 9 <| op_lst 6 <| op_iinc 8 1 <| op_back
theorem bs_X8_best_b135 : B_S M_X8_best 135 (F_X8_best_b135) (z_L z_O) (k_L 61 k_O) := by
  unfold F_X8_best_b135
  refine BS_iload dX8_best_135 ?_
  refine BS_istore dX8_best_137 (Nat.le_of_ble_eq_true rfl) ?_
  refine BS_lload dX8_best_139 ?_
  refine BS_lstore dX8_best_141 (Nat.le_of_ble_eq_true rfl) ?_
  refine BS_iinc dX8_best_143 (by decide) (Nat.le_of_ble_eq_true rfl) ?_
  refine BS_goto (tgt := 61) dX8_best_146 (by decide) ?_
  exact BS_back
noncomputable def F_X8_best_b108 : KK (L_S ⊕ OO) :=
  op_call 7 (f_kd 25 F_X8_lays) kx_no <| op_ald 0 <| op_push (.int 0) <| op_call 2 (f_kd 25 F_X8_oddsOf) kx_no <| op_lst 9 <| op_ild 5 <| op_push (.int (-1)) <| op_ceq (F_X8_best_b135) (op_lld 9 <| op_lld 6 <| op_lcmp <| op_igt (F_X8_best_b135) (op_iinc 8 1 <| op_back))
theorem bs_X8_best_b108 : B_S M_X8_best 108 (F_X8_best_b108) (z_L z_O) (k_L 61 k_O) := by
  unfold F_X8_best_b108
  refine BS_call (run_V dX8_best_108 con_X8_lays (ci := 15) rfl rfl q2119 q2121 qs92 q146 q2122 pd_X8_lays ⟨Nat.le_of_ble_eq_true rfl, Nat.le_of_ble_eq_true rfl⟩) BV_no ?_
  refine BS_aload_n dX8_best_111 rfl ?_
  refine BS_iconst dX8_best_112 (by decide) ?_
  refine BS_call (run_V dX8_best_113 con_X8_oddsOf (ci := 15) rfl rfl q2176 q2178 qs101 q146 q2179 pd_X8_oddsOf ⟨Nat.le_of_ble_eq_true rfl, Nat.le_of_ble_eq_true rfl⟩) BV_no ?_
  refine BS_lstore dX8_best_116 (Nat.le_of_ble_eq_true rfl) ?_
  refine BS_iload dX8_best_118 ?_
  refine BS_iconst dX8_best_120 (by decide) ?_
  refine BS_icmp_eq (tgt := 135) dX8_best_121 (by decide) ?_ ?_
  · exact bs_X8_best_b135
  · refine BS_lload dX8_best_124 ?_
    refine BS_lload dX8_best_126 ?_
    refine BS_lcmp dX8_best_128 ?_
    refine BS_if_gt (tgt := 135) dX8_best_129 (by decide) ?_ ?_
    · exact bs_X8_best_b135
    · refine BS_goto (tgt := 143) dX8_best_132 (by decide) ?_
      refine BS_iinc dX8_best_143 (by decide) (Nat.le_of_ble_eq_true rfl) ?_
      refine BS_goto (tgt := 61) dX8_best_146 (by decide) ?_
      exact BS_back
noncomputable def F_X8_best_l61 : KK (L_S ⊕ OO) :=
  op_ild 8 <| op_push (.int 12) <| op_cge (op_exit <| op_ald 0 <| op_ild 5 <| op_call 1 F_X8_told kx_no <| op_call 2 (f_kd 25 F_X8_good) kx_no <| op_iret .int) (op_ald 0 <| op_ild 2 <| op_ild 1 <| op_push (.int 0) <| op_ild 8 <| op_call 5 (f_kd 25 F_X8_isChoice) kx_no <| op_ine (op_ald 0 <| op_ild 1 <| op_ild 2 <| op_ild 8 <| op_push (.int 2) <| op_i2d (fun x y => x / y) <| op_push (.int 1) <| op_i2 (fun x y => x + y) <| op_ild 3 <| op_ild 4 <| op_ild 8 <| op_push (.int 2) <| op_i2d (fun x y => x - x / y * y) <| op_push (.int 1) <| op_cne (op_push (.int 2) <| F_X8_best_b108) (op_push (.int 0) <| F_X8_best_b108)) (op_iinc 8 1 <| op_back))
theorem bs_X8_best_l61 : B_S M_X8_best 61 (F_X8_best_l61) (z_L z_O) (k_L 61 k_O) := by
  unfold F_X8_best_l61
  refine BS_iload dX8_best_61 ?_
  refine BS_bipush dX8_best_63 (by decide) ?_
  refine BS_icmp_ge (tgt := 149) dX8_best_65 (by decide) ?_ ?_
  · refine BS_exit ?_
    refine BS_aload_n dX8_best_149 rfl ?_
    refine BS_iload dX8_best_150 ?_
    refine BS_call (run_S dX8_best_152 con_X8_told q2204 q2205 q146 q2206 pd_X8_told ⟨Nat.le_of_ble_eq_true rfl, Nat.le_of_ble_eq_true rfl⟩) BV_no ?_
    refine BS_call (run_V dX8_best_155 con_X8_good (ci := 15) rfl rfl q2063 q2065 qs86 q146 q2066 pd_X8_good ⟨Nat.le_of_ble_eq_true rfl, Nat.le_of_ble_eq_true rfl⟩) BV_no ?_
    exact BS_ireturn dX8_best_158 rfl
  · refine BS_aload_n dX8_best_68 rfl ?_
    refine BS_iload_n dX8_best_69 rfl ?_
    refine BS_iload_n dX8_best_70 rfl ?_
    refine BS_iconst dX8_best_71 (by decide) ?_
    refine BS_iload dX8_best_72 ?_
    refine BS_call (run_V dX8_best_74 con_X8_isChoice (ci := 15) rfl rfl q2200 q2202 qs105 q146 q2203 pd_X8_isChoice ⟨Nat.le_of_ble_eq_true rfl, Nat.le_of_ble_eq_true rfl⟩) BV_no ?_
    refine BS_if_ne (tgt := 83) dX8_best_77 (by decide) ?_ ?_
    · refine BS_aload_n dX8_best_83 rfl ?_
      refine BS_iload_n dX8_best_84 rfl ?_
      refine BS_iload_n dX8_best_85 rfl ?_
      refine BS_iload dX8_best_86 ?_
      refine BS_iconst dX8_best_88 (by decide) ?_
      refine BS_idiv dX8_best_89 ?_
      refine BS_iconst dX8_best_90 (by decide) ?_
      refine BS_iadd dX8_best_91 ?_
      refine BS_iload_n dX8_best_92 rfl ?_
      refine BS_iload dX8_best_93 ?_
      refine BS_iload dX8_best_95 ?_
      refine BS_iconst dX8_best_97 (by decide) ?_
      refine BS_irem dX8_best_98 ?_
      refine BS_iconst dX8_best_99 (by decide) ?_
      refine BS_icmp_ne (tgt := 107) dX8_best_100 (by decide) ?_ ?_
      · refine BS_iconst dX8_best_107 (by decide) ?_
        exact bs_X8_best_b108
      · refine BS_iconst dX8_best_103 (by decide) ?_
        refine BS_goto (tgt := 108) dX8_best_104 (by decide) ?_
        exact bs_X8_best_b108
    · refine BS_goto (tgt := 143) dX8_best_80 (by decide) ?_
      refine BS_iinc dX8_best_143 (by decide) (Nat.le_of_ble_eq_true rfl) ?_
      refine BS_goto (tgt := 61) dX8_best_146 (by decide) ?_
      exact BS_back
noncomputable def F_X8_best_b61 : KK OO := op_loop (F_X8_best_l61)
theorem bs_X8_best_b61 : B_S M_X8_best 61 (F_X8_best_b61) z_O k_O := BS_loop (bs_X8_best_l61)
noncomputable def F_X8_best_b0 : KK OO :=
  op_ald 0 <| op_push (.int 0) <| op_pfi .int [25] 98 <| op_ald 0 <| op_ild 1 <| op_call 2 (f_kd 25 F_X8_isBone) kx_no <| op_ieq (F_X8_best_b22) (op_ald 0 <| op_ild 2 <| op_ild 3 <| op_call 3 (f_kd 25 F_X8_isPair) kx_no <| op_ine (op_ild 4 <| op_push (.int 1) <| op_ald 0 <| op_gfr [25] 101 <| op_ild 1 <| op_push (.int 1) <| op_call 3 (f_kd 26 F_X20_many) kx_no <| op_call 3 F_X8_in kx_no <| op_ine (op_push (.int (-1)) <| op_ist 5 <| op_push (.long 0) <| op_lst 6 <| op_push (.int 0) <| op_ist 8 <| F_X8_best_b61) (op_ald 0 <| op_push (.int 2) <| op_call 2 (f_kd 25 F_X8_refused) kx_no <| op_iret .int)) (F_X8_best_b22))
theorem bs_X8_best_b0 : B_S M_X8_best 0 (F_X8_best_b0) z_O k_O := by
  unfold F_X8_best_b0
  refine BS_aload_n dX8_best_0 rfl ?_
  refine BS_iconst dX8_best_1 (by decide) ?_
  refine BS_pfi p_X8_53 (fun h => by cases h) dX8_best_2 ?_
  refine BS_aload_n dX8_best_5 rfl ?_
  refine BS_iload_n dX8_best_6 rfl ?_
  refine BS_call (run_V dX8_best_7 con_X8_isBone (ci := 15) rfl rfl q2079 q2081 qs87 q146 q2082 pd_X8_isBone ⟨Nat.le_of_ble_eq_true rfl, Nat.le_of_ble_eq_true rfl⟩) BV_no ?_
  refine BS_if_eq (tgt := 22) dX8_best_10 (by decide) ?_ ?_
  · exact bs_X8_best_b22
  · refine BS_aload_n dX8_best_13 rfl ?_
    refine BS_iload_n dX8_best_14 rfl ?_
    refine BS_iload_n dX8_best_15 rfl ?_
    refine BS_call (run_V dX8_best_16 con_X8_isPair (ci := 15) rfl rfl q2135 q2137 qs95 q146 q2138 pd_X8_isPair ⟨Nat.le_of_ble_eq_true rfl, Nat.le_of_ble_eq_true rfl⟩) BV_no ?_
    refine BS_if_ne (tgt := 28) dX8_best_19 (by decide) ?_ ?_
    · refine BS_iload dX8_best_28 ?_
      refine BS_iconst dX8_best_30 (by decide) ?_
      refine BS_aload_n dX8_best_31 rfl ?_
      refine BS_gfr f_X8_373 dX8_best_32 ?_
      refine BS_iload_n dX8_best_35 rfl ?_
      refine BS_iconst dX8_best_36 (by decide) ?_
      refine BS_call (run_V dX8_best_37 con_X20_many (ci := 16) rfl rfl q2083 q2084 q2085 q163 q2086 pd_X20_many ⟨Nat.le_of_ble_eq_true rfl, Nat.le_of_ble_eq_true rfl⟩) BV_no ?_
      refine BS_call (run_S dX8_best_40 con_X8_in q1965 q1966 q146 q1967 pd_X8_in ⟨Nat.le_of_ble_eq_true rfl, Nat.le_of_ble_eq_true rfl⟩) BV_no ?_
      refine BS_if_ne (tgt := 52) dX8_best_43 (by decide) ?_ ?_
      · refine BS_iconst dX8_best_52 (by decide) ?_
        refine BS_istore dX8_best_53 (Nat.le_of_ble_eq_true rfl) ?_
        refine BS_lconst dX8_best_55 (by decide) ?_
        refine BS_lstore dX8_best_56 (Nat.le_of_ble_eq_true rfl) ?_
        refine BS_iconst dX8_best_58 (by decide) ?_
        refine BS_istore dX8_best_59 (Nat.le_of_ble_eq_true rfl) ?_
        exact bs_X8_best_b61
      · refine BS_aload_n dX8_best_46 rfl ?_
        refine BS_iconst dX8_best_47 (by decide) ?_
        refine BS_call (run_V dX8_best_48 con_X8_refused (ci := 15) rfl rfl q1749 q1751 qs58 q146 q1752 pd_X8_refused ⟨Nat.le_of_ble_eq_true rfl, Nat.le_of_ble_eq_true rfl⟩) BV_no ?_
        exact BS_ireturn dX8_best_51 rfl
    · exact bs_X8_best_b22
noncomputable def F_X8_best : FF := mk_F 11 F_X8_best_b0
theorem con_X8_best : Con_ yX8_best (ws_ yX8_best cX8_best 11 (some .int)) 6 146 F_X8_best := Con_of (by decide +kernel) bs_X8_best_b0
/-- LongerHalfModel.isRest(IIIII)Z -/
abbrev M_X8_isRest : MM := (yX8_isRest, cX8_isRest, (some .boolean), 2, 46, 7, [])
theorem pd_X8_isRest : (yX8_isRest.cls ≠ "java/lang/invoke/MethodHandle" ∧ yX8_isRest.cls ≠ "java/lang/invoke/VarHandle") ∧ (parseMethodDescriptor yX8_isRest.desc).map (fun d => d.parameters.length) = some 5 := ⟨⟨by decide +kernel, by decide +kernel⟩, by decide +kernel⟩
noncomputable def F_X8_isRest_b54 : KK (L_S ⊕ OO) :=
  op_ald 0 <| op_ild 3 <| op_ild 1 <| op_push (.int 1) <| op_ild 6 <| op_call 5 (f_kd 25 F_X8_isChoice) kx_no <| op_ieq (op_iinc 6 1 <| op_back) (op_ald 0 <| op_gfr [25] 129 <| op_push (.int 12) <| op_ild 4 <| op_i2 (fun x y => x * y) <| op_ild 6 <| op_i2 (fun x y => x + y) <| op_lald <| op_ald 0 <| op_gfr [25] 129 <| op_push (.int 12) <| op_ild 4 <| op_i2 (fun x y => x * y) <| op_ild 5 <| op_i2 (fun x y => x + y) <| op_lald <| op_lcmp <| op_ile (op_iinc 6 1 <| op_back) (op_exit <| op_push (.int 0) <| op_iret .boolean))
theorem bs_X8_isRest_b54 : B_S M_X8_isRest 54 (F_X8_isRest_b54) (z_L z_O) (k_L 3 k_O) := by
  unfold F_X8_isRest_b54
  refine BS_aload_n dX8_isRest_54 rfl ?_
  refine BS_iload_n dX8_isRest_55 rfl ?_
  refine BS_iload_n dX8_isRest_56 rfl ?_
  refine BS_iconst dX8_isRest_57 (by decide) ?_
  refine BS_iload dX8_isRest_58 ?_
  refine BS_call (run_V dX8_isRest_60 con_X8_isChoice (ci := 15) rfl rfl q2200 q2202 qs105 q146 q2203 pd_X8_isChoice ⟨Nat.le_of_ble_eq_true rfl, Nat.le_of_ble_eq_true rfl⟩) BV_no ?_
  refine BS_if_eq (tgt := 98) dX8_isRest_63 (by decide) ?_ ?_
  · refine BS_iinc dX8_isRest_98 (by decide) (Nat.le_of_ble_eq_true rfl) ?_
    refine BS_goto (tgt := 3) dX8_isRest_101 (by decide) ?_
    exact BS_back
  · refine BS_aload_n dX8_isRest_66 rfl ?_
    refine BS_gfr f_X8_41 dX8_isRest_67 ?_
    refine BS_bipush dX8_isRest_70 (by decide) ?_
    refine BS_iload dX8_isRest_72 ?_
    refine BS_imul dX8_isRest_74 ?_
    refine BS_iload dX8_isRest_75 ?_
    refine BS_iadd dX8_isRest_77 ?_
    refine BS_laload dX8_isRest_78 ?_
    refine BS_aload_n dX8_isRest_79 rfl ?_
    refine BS_gfr f_X8_41 dX8_isRest_80 ?_
    refine BS_bipush dX8_isRest_83 (by decide) ?_
    refine BS_iload dX8_isRest_85 ?_
    refine BS_imul dX8_isRest_87 ?_
    refine BS_iload dX8_isRest_88 ?_
    refine BS_iadd dX8_isRest_90 ?_
    refine BS_laload dX8_isRest_91 ?_
    refine BS_lcmp dX8_isRest_92 ?_
    refine BS_if_le (tgt := 98) dX8_isRest_93 (by decide) ?_ ?_
    · refine BS_iinc dX8_isRest_98 (by decide) (Nat.le_of_ble_eq_true rfl) ?_
      refine BS_goto (tgt := 3) dX8_isRest_101 (by decide) ?_
      exact BS_back
    · refine BS_exit ?_
      refine BS_iconst dX8_isRest_96 (by decide) ?_
      exact BS_ireturn dX8_isRest_97 rfl
noncomputable def F_X8_isRest_l3 : KK (L_S ⊕ OO) :=
  op_ild 6 <| op_push (.int 12) <| op_cge (op_exit <| op_push (.int 1) <| op_iret .boolean) (op_ald 0 <| op_ild 2 <| op_ild 1 <| op_push (.int 0) <| op_ild 6 <| op_call 5 (f_kd 25 F_X8_isChoice) kx_no <| op_ieq (F_X8_isRest_b54) (op_ald 0 <| op_gfr [25] 128 <| op_push (.int 12) <| op_ild 6 <| op_i2 (fun x y => x * y) <| op_ild 5 <| op_i2 (fun x y => x + y) <| op_lald <| op_ald 0 <| op_gfr [25] 128 <| op_push (.int 12) <| op_ild 4 <| op_i2 (fun x y => x * y) <| op_ild 5 <| op_i2 (fun x y => x + y) <| op_lald <| op_lcmp <| op_ile (F_X8_isRest_b54) (op_exit <| op_push (.int 0) <| op_iret .boolean)))
theorem bs_X8_isRest_l3 : B_S M_X8_isRest 3 (F_X8_isRest_l3) (z_L z_O) (k_L 3 k_O) := by
  unfold F_X8_isRest_l3
  refine BS_iload dX8_isRest_3 ?_
  refine BS_bipush dX8_isRest_5 (by decide) ?_
  refine BS_icmp_ge (tgt := 104) dX8_isRest_7 (by decide) ?_ ?_
  · refine BS_exit ?_
    refine BS_iconst dX8_isRest_104 (by decide) ?_
    exact BS_ireturn dX8_isRest_105 rfl
  · refine BS_aload_n dX8_isRest_10 rfl ?_
    refine BS_iload_n dX8_isRest_11 rfl ?_
    refine BS_iload_n dX8_isRest_12 rfl ?_
    refine BS_iconst dX8_isRest_13 (by decide) ?_
    refine BS_iload dX8_isRest_14 ?_
    refine BS_call (run_V dX8_isRest_16 con_X8_isChoice (ci := 15) rfl rfl q2200 q2202 qs105 q146 q2203 pd_X8_isChoice ⟨Nat.le_of_ble_eq_true rfl, Nat.le_of_ble_eq_true rfl⟩) BV_no ?_
    refine BS_if_eq (tgt := 54) dX8_isRest_19 (by decide) ?_ ?_
    · exact bs_X8_isRest_b54
    · refine BS_aload_n dX8_isRest_22 rfl ?_
      refine BS_gfr f_X8_37 dX8_isRest_23 ?_
      refine BS_bipush dX8_isRest_26 (by decide) ?_
      refine BS_iload dX8_isRest_28 ?_
      refine BS_imul dX8_isRest_30 ?_
      refine BS_iload dX8_isRest_31 ?_
      refine BS_iadd dX8_isRest_33 ?_
      refine BS_laload dX8_isRest_34 ?_
      refine BS_aload_n dX8_isRest_35 rfl ?_
      refine BS_gfr f_X8_37 dX8_isRest_36 ?_
      refine BS_bipush dX8_isRest_39 (by decide) ?_
      refine BS_iload dX8_isRest_41 ?_
      refine BS_imul dX8_isRest_43 ?_
      refine BS_iload dX8_isRest_44 ?_
      refine BS_iadd dX8_isRest_46 ?_
      refine BS_laload dX8_isRest_47 ?_
      refine BS_lcmp dX8_isRest_48 ?_
      refine BS_if_le (tgt := 54) dX8_isRest_49 (by decide) ?_ ?_
      · exact bs_X8_isRest_b54
      · refine BS_exit ?_
        refine BS_iconst dX8_isRest_52 (by decide) ?_
        exact BS_ireturn dX8_isRest_53 rfl
noncomputable def F_X8_isRest_b3 : KK OO := op_loop (F_X8_isRest_l3)
theorem bs_X8_isRest_b3 : B_S M_X8_isRest 3 (F_X8_isRest_b3) z_O k_O := BS_loop (bs_X8_isRest_l3)
noncomputable def F_X8_isRest_b0 : KK OO :=
  op_push (.int 0) <| op_ist 6 <| F_X8_isRest_b3
theorem bs_X8_isRest_b0 : B_S M_X8_isRest 0 (F_X8_isRest_b0) z_O k_O := by
  unfold F_X8_isRest_b0
  refine BS_iconst dX8_isRest_0 (by decide) ?_
  refine BS_istore dX8_isRest_1 (Nat.le_of_ble_eq_true rfl) ?_
  exact bs_X8_isRest_b3
noncomputable def F_X8_isRest : FF := mk_F 7 F_X8_isRest_b0
theorem con_X8_isRest : Con_ yX8_isRest (ws_ yX8_isRest cX8_isRest 7 (some .boolean)) 2 46 F_X8_isRest := Con_of (by decide +kernel) bs_X8_isRest_b0
/-- LongerHalfModel.laysGame(III)V -/
abbrev M_X8_laysGame : MM := (yX8_laysGame, cX8_laysGame, none, 6, 146, 7, [])
theorem pd_X8_laysGame : (yX8_laysGame.cls ≠ "java/lang/invoke/MethodHandle" ∧ yX8_laysGame.cls ≠ "java/lang/invoke/VarHandle") ∧ (parseMethodDescriptor yX8_laysGame.desc).map (fun d => d.parameters.length) = some 3 := ⟨⟨by decide +kernel, by decide +kernel⟩, by decide +kernel⟩
noncomputable def F_X8_laysGame_b84 : KK (L_S ⊕ (L_S ⊕ OO)) :=
  op_ist 6 <| op_ald 0 <| op_ild 1 <| op_ild 2 <| op_ild 4 <| op_push (.int 2) <| op_i2d (fun x y => x / y) <| op_push (.int 1) <| op_i2 (fun x y => x + y) <| op_ild 3 <| op_ild 5 <| op_push (.int 2) <| op_i2d (fun x y => x / y) <| op_push (.int 1) <| op_i2 (fun x y => x + y) <| op_ild 6 <| op_call 7 (f_kd 25 F_X8_lays) kx_no <| op_ald 0 <| op_gfr [25] 128 <| op_push (.int 12) <| op_ild 4 <| op_i2 (fun x y => x * y) <| op_ild 5 <| op_i2 (fun x y => x + y) <| op_ald 0 <| op_push (.int 0) <| op_call 2 (f_kd 25 F_X8_oddsOf) kx_no <| op_last <| op_ald 0 <| op_gfr [25] 129 <| op_push (.int 12) <| op_ild 4 <| op_i2 (fun x y => x * y) <| op_ild 5 <| op_i2 (fun x y => x + y) <| op_ald 0 <| op_push (.int 1) <| op_call 2 (f_kd 25 F_X8_oddsOf) kx_no <| op_last <| op_iinc 5 1 <| op_back
theorem bs_X8_laysGame_b84 : B_S M_X8_laysGame 84 (F_X8_laysGame_b84) (z_L (z_L z_O)) (k_L 13 (k_L 3 k_O)) := by
  unfold F_X8_laysGame_b84
  refine BS_istore dX8_laysGame_84 (Nat.le_of_ble_eq_true rfl) ?_
  refine BS_aload_n dX8_laysGame_86 rfl ?_
  refine BS_iload_n dX8_laysGame_87 rfl ?_
  refine BS_iload_n dX8_laysGame_88 rfl ?_
  refine BS_iload dX8_laysGame_89 ?_
  refine BS_iconst dX8_laysGame_91 (by decide) ?_
  refine BS_idiv dX8_laysGame_92 ?_
  refine BS_iconst dX8_laysGame_93 (by decide) ?_
  refine BS_iadd dX8_laysGame_94 ?_
  refine BS_iload_n dX8_laysGame_95 rfl ?_
  refine BS_iload dX8_laysGame_96 ?_
  refine BS_iconst dX8_laysGame_98 (by decide) ?_
  refine BS_idiv dX8_laysGame_99 ?_
  refine BS_iconst dX8_laysGame_100 (by decide) ?_
  refine BS_iadd dX8_laysGame_101 ?_
  refine BS_iload dX8_laysGame_102 ?_
  refine BS_call (run_V dX8_laysGame_104 con_X8_lays (ci := 15) rfl rfl q2119 q2121 qs92 q146 q2122 pd_X8_lays ⟨Nat.le_of_ble_eq_true rfl, Nat.le_of_ble_eq_true rfl⟩) BV_no ?_
  refine BS_aload_n dX8_laysGame_107 rfl ?_
  refine BS_gfr f_X8_37 dX8_laysGame_108 ?_
  refine BS_bipush dX8_laysGame_111 (by decide) ?_
  refine BS_iload dX8_laysGame_113 ?_
  refine BS_imul dX8_laysGame_115 ?_
  refine BS_iload dX8_laysGame_116 ?_
  refine BS_iadd dX8_laysGame_118 ?_
  refine BS_aload_n dX8_laysGame_119 rfl ?_
  refine BS_iconst dX8_laysGame_120 (by decide) ?_
  refine BS_call (run_V dX8_laysGame_121 con_X8_oddsOf (ci := 15) rfl rfl q2176 q2178 qs101 q146 q2179 pd_X8_oddsOf ⟨Nat.le_of_ble_eq_true rfl, Nat.le_of_ble_eq_true rfl⟩) BV_no ?_
  refine BS_lastore dX8_laysGame_124 ?_
  refine BS_aload_n dX8_laysGame_125 rfl ?_
  refine BS_gfr f_X8_41 dX8_laysGame_126 ?_
  refine BS_bipush dX8_laysGame_129 (by decide) ?_
  refine BS_iload dX8_laysGame_131 ?_
  refine BS_imul dX8_laysGame_133 ?_
  refine BS_iload dX8_laysGame_134 ?_
  refine BS_iadd dX8_laysGame_136 ?_
  refine BS_aload_n dX8_laysGame_137 rfl ?_
  refine BS_iconst dX8_laysGame_138 (by decide) ?_
  refine BS_call (run_V dX8_laysGame_139 con_X8_oddsOf (ci := 15) rfl rfl q2176 q2178 qs101 q146 q2179 pd_X8_oddsOf ⟨Nat.le_of_ble_eq_true rfl, Nat.le_of_ble_eq_true rfl⟩) BV_no ?_
  refine BS_lastore dX8_laysGame_142 ?_
  refine BS_iinc dX8_laysGame_143 (by decide) (Nat.le_of_ble_eq_true rfl) ?_
  refine BS_goto (tgt := 13) dX8_laysGame_146 (by decide) ?_
  exact BS_back
noncomputable def F_X8_laysGame_l13 : KK (L_S ⊕ (L_S ⊕ OO)) :=
  op_ild 5 <| op_push (.int 12) <| op_cge (op_exit <| op_iinc 4 1 <| op_back) (op_ald 0 <| op_ild 2 <| op_ild 1 <| op_push (.int 0) <| op_ild 4 <| op_call 5 (f_kd 25 F_X8_isChoice) kx_no <| op_ieq (op_iinc 5 1 <| op_back) (op_ald 0 <| op_ild 3 <| op_ild 1 <| op_push (.int 1) <| op_ild 5 <| op_call 5 (f_kd 25 F_X8_isChoice) kx_no <| op_ine (op_ild 4 <| op_push (.int 2) <| op_i2d (fun x y => x - x / y * y) <| op_push (.int 1) <| op_cne (op_ild 5 <| op_push (.int 2) <| op_i2d (fun x y => x - x / y * y) <| op_push (.int 1) <| op_cne (op_push (.int 2) <| F_X8_laysGame_b84) (op_push (.int 1) <| F_X8_laysGame_b84)) (op_ild 5 <| op_push (.int 2) <| op_i2d (fun x y => x - x / y * y) <| op_push (.int 1) <| op_cne (op_push (.int 0) <| F_X8_laysGame_b84) (op_push (.int 3) <| F_X8_laysGame_b84))) (op_iinc 5 1 <| op_back)))
theorem bs_X8_laysGame_l13 : B_S M_X8_laysGame 13 (F_X8_laysGame_l13) (z_L (z_L z_O)) (k_L 13 (k_L 3 k_O)) := by
  unfold F_X8_laysGame_l13
  refine BS_iload dX8_laysGame_13 ?_
  refine BS_bipush dX8_laysGame_15 (by decide) ?_
  refine BS_icmp_ge (tgt := 149) dX8_laysGame_17 (by decide) ?_ ?_
  · refine BS_exit ?_
    refine BS_iinc dX8_laysGame_149 (by decide) (Nat.le_of_ble_eq_true rfl) ?_
    refine BS_goto (tgt := 3) dX8_laysGame_152 (by decide) ?_
    exact BS_back
  · refine BS_aload_n dX8_laysGame_20 rfl ?_
    refine BS_iload_n dX8_laysGame_21 rfl ?_
    refine BS_iload_n dX8_laysGame_22 rfl ?_
    refine BS_iconst dX8_laysGame_23 (by decide) ?_
    refine BS_iload dX8_laysGame_24 ?_
    refine BS_call (run_V dX8_laysGame_26 con_X8_isChoice (ci := 15) rfl rfl q2200 q2202 qs105 q146 q2203 pd_X8_isChoice ⟨Nat.le_of_ble_eq_true rfl, Nat.le_of_ble_eq_true rfl⟩) BV_no ?_
    refine BS_if_eq (tgt := 143) dX8_laysGame_29 (by decide) ?_ ?_
    · refine BS_iinc dX8_laysGame_143 (by decide) (Nat.le_of_ble_eq_true rfl) ?_
      refine BS_goto (tgt := 13) dX8_laysGame_146 (by decide) ?_
      exact BS_back
    · refine BS_aload_n dX8_laysGame_32 rfl ?_
      refine BS_iload_n dX8_laysGame_33 rfl ?_
      refine BS_iload_n dX8_laysGame_34 rfl ?_
      refine BS_iconst dX8_laysGame_35 (by decide) ?_
      refine BS_iload dX8_laysGame_36 ?_
      refine BS_call (run_V dX8_laysGame_38 con_X8_isChoice (ci := 15) rfl rfl q2200 q2202 qs105 q146 q2203 pd_X8_isChoice ⟨Nat.le_of_ble_eq_true rfl, Nat.le_of_ble_eq_true rfl⟩) BV_no ?_
      refine BS_if_ne (tgt := 47) dX8_laysGame_41 (by decide) ?_ ?_
      · refine BS_iload dX8_laysGame_47 ?_
        refine BS_iconst dX8_laysGame_49 (by decide) ?_
        refine BS_irem dX8_laysGame_50 ?_
        refine BS_iconst dX8_laysGame_51 (by decide) ?_
        refine BS_icmp_ne (tgt := 71) dX8_laysGame_52 (by decide) ?_ ?_
        · refine BS_iload dX8_laysGame_71 ?_
          refine BS_iconst dX8_laysGame_73 (by decide) ?_
          refine BS_irem dX8_laysGame_74 ?_
          refine BS_iconst dX8_laysGame_75 (by decide) ?_
          refine BS_icmp_ne (tgt := 83) dX8_laysGame_76 (by decide) ?_ ?_
          · refine BS_iconst dX8_laysGame_83 (by decide) ?_
            exact bs_X8_laysGame_b84
          · refine BS_iconst dX8_laysGame_79 (by decide) ?_
            refine BS_goto (tgt := 84) dX8_laysGame_80 (by decide) ?_
            exact bs_X8_laysGame_b84
        · refine BS_iload dX8_laysGame_55 ?_
          refine BS_iconst dX8_laysGame_57 (by decide) ?_
          refine BS_irem dX8_laysGame_58 ?_
          refine BS_iconst dX8_laysGame_59 (by decide) ?_
          refine BS_icmp_ne (tgt := 67) dX8_laysGame_60 (by decide) ?_ ?_
          · refine BS_iconst dX8_laysGame_67 (by decide) ?_
            refine BS_goto (tgt := 84) dX8_laysGame_68 (by decide) ?_
            exact bs_X8_laysGame_b84
          · refine BS_iconst dX8_laysGame_63 (by decide) ?_
            refine BS_goto (tgt := 84) dX8_laysGame_64 (by decide) ?_
            exact bs_X8_laysGame_b84
      · refine BS_goto (tgt := 143) dX8_laysGame_44 (by decide) ?_
        refine BS_iinc dX8_laysGame_143 (by decide) (Nat.le_of_ble_eq_true rfl) ?_
        refine BS_goto (tgt := 13) dX8_laysGame_146 (by decide) ?_
        exact BS_back
noncomputable def F_X8_laysGame_b13 : KK (L_S ⊕ OO) := op_loop (F_X8_laysGame_l13)
theorem bs_X8_laysGame_b13 : B_S M_X8_laysGame 13 (F_X8_laysGame_b13) (z_L z_O) (k_L 3 k_O) := BS_loop (bs_X8_laysGame_l13)
noncomputable def F_X8_laysGame_l3 : KK (L_S ⊕ OO) :=
  op_ild 4 <| op_push (.int 12) <| op_cge (op_exit <| op_vret) (op_push (.int 0) <| op_ist 5 <| F_X8_laysGame_b13)
theorem bs_X8_laysGame_l3 : B_S M_X8_laysGame 3 (F_X8_laysGame_l3) (z_L z_O) (k_L 3 k_O) := by
  unfold F_X8_laysGame_l3
  refine BS_iload dX8_laysGame_3 ?_
  refine BS_bipush dX8_laysGame_5 (by decide) ?_
  refine BS_icmp_ge (tgt := 155) dX8_laysGame_7 (by decide) ?_ ?_
  · refine BS_exit ?_
    exact BS_return dX8_laysGame_155 rfl
  · refine BS_iconst dX8_laysGame_10 (by decide) ?_
    refine BS_istore dX8_laysGame_11 (Nat.le_of_ble_eq_true rfl) ?_
    exact bs_X8_laysGame_b13
noncomputable def F_X8_laysGame_b3 : KK OO := op_loop (F_X8_laysGame_l3)
theorem bs_X8_laysGame_b3 : B_S M_X8_laysGame 3 (F_X8_laysGame_b3) z_O k_O := BS_loop (bs_X8_laysGame_l3)
noncomputable def F_X8_laysGame_b0 : KK OO :=
  op_push (.int 0) <| op_ist 4 <| F_X8_laysGame_b3
theorem bs_X8_laysGame_b0 : B_S M_X8_laysGame 0 (F_X8_laysGame_b0) z_O k_O := by
  unfold F_X8_laysGame_b0
  refine BS_iconst dX8_laysGame_0 (by decide) ?_
  refine BS_istore dX8_laysGame_1 (Nat.le_of_ble_eq_true rfl) ?_
  exact bs_X8_laysGame_b3
noncomputable def F_X8_laysGame : FF := mk_F 7 F_X8_laysGame_b0
theorem con_X8_laysGame : Con_ yX8_laysGame (ws_ yX8_laysGame cX8_laysGame 7 none) 6 146 F_X8_laysGame := Con_of (by decide +kernel) bs_X8_laysGame_b0
/-- LongerHalfModel.restAt(IIII)I -/
abbrev M_X8_restAt : MM := (yX8_restAt, cX8_restAt, (some .int), 7, 172, 8, [])
theorem pd_X8_restAt : (yX8_restAt.cls ≠ "java/lang/invoke/MethodHandle" ∧ yX8_restAt.cls ≠ "java/lang/invoke/VarHandle") ∧ (parseMethodDescriptor yX8_restAt.desc).map (fun d => d.parameters.length) = some 4 := ⟨⟨by decide +kernel, by decide +kernel⟩, by decide +kernel⟩
noncomputable def F_X8_restAt_b68 : KK (L_S ⊕ (L_S ⊕ OO)) :=
  op_iinc 7 1 <| op_back
theorem bs_X8_restAt_b68 : B_S M_X8_restAt 68 (F_X8_restAt_b68) (z_L (z_L z_O)) (k_L 23 (k_L 13 k_O)) := by
  unfold F_X8_restAt_b68
  refine BS_goto (tgt := 96) dX8_restAt_68 (by decide) ?_
  refine BS_iinc dX8_restAt_96 (by decide) (Nat.le_of_ble_eq_true rfl) ?_
  refine BS_goto (tgt := 23) dX8_restAt_99 (by decide) ?_
  exact BS_back
noncomputable def F_X8_restAt_l23 : KK (L_S ⊕ (L_S ⊕ OO)) :=
  op_ild 7 <| op_push (.int 12) <| op_cge (op_exit <| op_iinc 6 1 <| op_back) (op_ald 0 <| op_ild 2 <| op_ild 1 <| op_push (.int 0) <| op_ild 6 <| op_call 5 (f_kd 25 F_X8_isChoice) kx_no <| op_ieq (op_iinc 7 1 <| op_back) (op_ald 0 <| op_ild 3 <| op_ild 1 <| op_push (.int 1) <| op_ild 7 <| op_call 5 (f_kd 25 F_X8_isChoice) kx_no <| op_ieq (op_iinc 7 1 <| op_back) (op_ald 0 <| op_ild 1 <| op_ild 2 <| op_ild 3 <| op_ild 6 <| op_ild 7 <| op_call 6 (f_kd 25 F_X8_isRest) kx_no <| op_ine (op_ild 5 <| op_ild 4 <| op_cne (op_iinc 5 1 <| op_iinc 7 1 <| op_back) (op_exit <| op_exit <| op_push (.int 100) <| op_ild 6 <| op_call 1 F_X8_told kx_no <| op_i2 (fun x y => x * y) <| op_ild 7 <| op_call 1 F_X8_told kx_no <| op_i2 (fun x y => x + y) <| op_iret .int)) (F_X8_restAt_b68))))
theorem bs_X8_restAt_l23 : B_S M_X8_restAt 23 (F_X8_restAt_l23) (z_L (z_L z_O)) (k_L 23 (k_L 13 k_O)) := by
  unfold F_X8_restAt_l23
  refine BS_iload dX8_restAt_23 ?_
  refine BS_bipush dX8_restAt_25 (by decide) ?_
  refine BS_icmp_ge (tgt := 102) dX8_restAt_27 (by decide) ?_ ?_
  · refine BS_exit ?_
    refine BS_iinc dX8_restAt_102 (by decide) (Nat.le_of_ble_eq_true rfl) ?_
    refine BS_goto (tgt := 13) dX8_restAt_105 (by decide) ?_
    exact BS_back
  · refine BS_aload_n dX8_restAt_30 rfl ?_
    refine BS_iload_n dX8_restAt_31 rfl ?_
    refine BS_iload_n dX8_restAt_32 rfl ?_
    refine BS_iconst dX8_restAt_33 (by decide) ?_
    refine BS_iload dX8_restAt_34 ?_
    refine BS_call (run_V dX8_restAt_36 con_X8_isChoice (ci := 15) rfl rfl q2200 q2202 qs105 q146 q2203 pd_X8_isChoice ⟨Nat.le_of_ble_eq_true rfl, Nat.le_of_ble_eq_true rfl⟩) BV_no ?_
    refine BS_if_eq (tgt := 96) dX8_restAt_39 (by decide) ?_ ?_
    · refine BS_iinc dX8_restAt_96 (by decide) (Nat.le_of_ble_eq_true rfl) ?_
      refine BS_goto (tgt := 23) dX8_restAt_99 (by decide) ?_
      exact BS_back
    · refine BS_aload_n dX8_restAt_42 rfl ?_
      refine BS_iload_n dX8_restAt_43 rfl ?_
      refine BS_iload_n dX8_restAt_44 rfl ?_
      refine BS_iconst dX8_restAt_45 (by decide) ?_
      refine BS_iload dX8_restAt_46 ?_
      refine BS_call (run_V dX8_restAt_48 con_X8_isChoice (ci := 15) rfl rfl q2200 q2202 qs105 q146 q2203 pd_X8_isChoice ⟨Nat.le_of_ble_eq_true rfl, Nat.le_of_ble_eq_true rfl⟩) BV_no ?_
      refine BS_if_eq (tgt := 96) dX8_restAt_51 (by decide) ?_ ?_
      · refine BS_iinc dX8_restAt_96 (by decide) (Nat.le_of_ble_eq_true rfl) ?_
        refine BS_goto (tgt := 23) dX8_restAt_99 (by decide) ?_
        exact BS_back
      · refine BS_aload_n dX8_restAt_54 rfl ?_
        refine BS_iload_n dX8_restAt_55 rfl ?_
        refine BS_iload_n dX8_restAt_56 rfl ?_
        refine BS_iload_n dX8_restAt_57 rfl ?_
        refine BS_iload dX8_restAt_58 ?_
        refine BS_iload dX8_restAt_60 ?_
        refine BS_call (run_V dX8_restAt_62 con_X8_isRest (ci := 15) rfl rfl q2219 q2221 qs108 q146 q2222 pd_X8_isRest ⟨Nat.le_of_ble_eq_true rfl, Nat.le_of_ble_eq_true rfl⟩) BV_no ?_
        refine BS_if_ne (tgt := 71) dX8_restAt_65 (by decide) ?_ ?_
        · refine BS_iload dX8_restAt_71 ?_
          refine BS_iload dX8_restAt_73 ?_
          refine BS_icmp_ne (tgt := 93) dX8_restAt_75 (by decide) ?_ ?_
          · refine BS_iinc dX8_restAt_93 (by decide) (Nat.le_of_ble_eq_true rfl) ?_
            refine BS_iinc dX8_restAt_96 (by decide) (Nat.le_of_ble_eq_true rfl) ?_
            refine BS_goto (tgt := 23) dX8_restAt_99 (by decide) ?_
            exact BS_back
          · refine BS_exit ?_
            refine BS_exit ?_
            refine BS_bipush dX8_restAt_78 (by decide) ?_
            refine BS_iload dX8_restAt_80 ?_
            refine BS_call (run_S dX8_restAt_82 con_X8_told q2204 q2205 q146 q2206 pd_X8_told ⟨Nat.le_of_ble_eq_true rfl, Nat.le_of_ble_eq_true rfl⟩) BV_no ?_
            refine BS_imul dX8_restAt_85 ?_
            refine BS_iload dX8_restAt_86 ?_
            refine BS_call (run_S dX8_restAt_88 con_X8_told q2204 q2205 q146 q2206 pd_X8_told ⟨Nat.le_of_ble_eq_true rfl, Nat.le_of_ble_eq_true rfl⟩) BV_no ?_
            refine BS_iadd dX8_restAt_91 ?_
            exact BS_ireturn dX8_restAt_92 rfl
        · exact bs_X8_restAt_b68
noncomputable def F_X8_restAt_b23 : KK (L_S ⊕ OO) := op_loop (F_X8_restAt_l23)
theorem bs_X8_restAt_b23 : B_S M_X8_restAt 23 (F_X8_restAt_b23) (z_L z_O) (k_L 13 k_O) := BS_loop (bs_X8_restAt_l23)
noncomputable def F_X8_restAt_l13 : KK (L_S ⊕ OO) :=
  op_ild 6 <| op_push (.int 12) <| op_cge (op_exit <| op_ild 4 <| op_push (.int (-1)) <| op_cne (op_push (.int (-2)) <| op_iret .int) (op_ild 5 <| op_iret .int)) (op_push (.int 0) <| op_ist 7 <| F_X8_restAt_b23)
theorem bs_X8_restAt_l13 : B_S M_X8_restAt 13 (F_X8_restAt_l13) (z_L z_O) (k_L 13 k_O) := by
  unfold F_X8_restAt_l13
  refine BS_iload dX8_restAt_13 ?_
  refine BS_bipush dX8_restAt_15 (by decide) ?_
  refine BS_icmp_ge (tgt := 108) dX8_restAt_17 (by decide) ?_ ?_
  · refine BS_exit ?_
    refine BS_iload dX8_restAt_108 ?_
    refine BS_iconst dX8_restAt_110 (by decide) ?_
    refine BS_icmp_ne (tgt := 119) dX8_restAt_111 (by decide) ?_ ?_
    · refine BS_bipush dX8_restAt_119 (by decide) ?_
      exact BS_ireturn dX8_restAt_121 rfl
    · refine BS_iload dX8_restAt_114 ?_
      refine BS_goto (tgt := 121) dX8_restAt_116 (by decide) ?_
      exact BS_ireturn dX8_restAt_121 rfl
  · refine BS_iconst dX8_restAt_20 (by decide) ?_
    refine BS_istore dX8_restAt_21 (Nat.le_of_ble_eq_true rfl) ?_
    exact bs_X8_restAt_b23
noncomputable def F_X8_restAt_b13 : KK OO := op_loop (F_X8_restAt_l13)
theorem bs_X8_restAt_b13 : B_S M_X8_restAt 13 (F_X8_restAt_b13) z_O k_O := BS_loop (bs_X8_restAt_l13)
noncomputable def F_X8_restAt_b0 : KK OO :=
  op_ald 0 <| op_ild 1 <| op_ild 2 <| op_ild 3 <| op_call 4 (f_kd 25 F_X8_laysGame) kx_no <| op_push (.int 0) <| op_ist 5 <| op_push (.int 0) <| op_ist 6 <| F_X8_restAt_b13
theorem bs_X8_restAt_b0 : B_S M_X8_restAt 0 (F_X8_restAt_b0) z_O k_O := by
  unfold F_X8_restAt_b0
  refine BS_aload_n dX8_restAt_0 rfl ?_
  refine BS_iload_n dX8_restAt_1 rfl ?_
  refine BS_iload_n dX8_restAt_2 rfl ?_
  refine BS_iload_n dX8_restAt_3 rfl ?_
  refine BS_call (run_V dX8_restAt_4 con_X8_laysGame (ci := 15) rfl rfl q2215 q2217 qs107 q146 q2218 pd_X8_laysGame ⟨Nat.le_of_ble_eq_true rfl, Nat.le_of_ble_eq_true rfl⟩) BV_no ?_
  refine BS_iconst dX8_restAt_7 (by decide) ?_
  refine BS_istore dX8_restAt_8 (Nat.le_of_ble_eq_true rfl) ?_
  refine BS_iconst dX8_restAt_10 (by decide) ?_
  refine BS_istore dX8_restAt_11 (Nat.le_of_ble_eq_true rfl) ?_
  exact bs_X8_restAt_b13
noncomputable def F_X8_restAt : FF := mk_F 8 F_X8_restAt_b0
theorem con_X8_restAt : Con_ yX8_restAt (ws_ yX8_restAt cX8_restAt 8 (some .int)) 7 172 F_X8_restAt := Con_of (by decide +kernel) bs_X8_restAt_b0
/-- LongerHalfModel.rests(III)I -/
abbrev M_X8_rests : MM := (yX8_rests, cX8_rests, (some .int), 8, 199, 4, [])
theorem pd_X8_rests : (yX8_rests.cls ≠ "java/lang/invoke/MethodHandle" ∧ yX8_rests.cls ≠ "java/lang/invoke/VarHandle") ∧ (parseMethodDescriptor yX8_rests.desc).map (fun d => d.parameters.length) = some 3 := ⟨⟨by decide +kernel, by decide +kernel⟩, by decide +kernel⟩
noncomputable def F_X8_rests_b37 : KK OO :=
  op_ald 0 <| op_push (.int 1) <| op_call 2 (f_kd 25 F_X8_refused) kx_no <| op_iret .int
theorem bs_X8_rests_b37 : B_S M_X8_rests 37 (F_X8_rests_b37) z_O k_O := by
  unfold F_X8_rests_b37
  refine BS_aload_n dX8_rests_37 rfl ?_
  refine BS_iconst dX8_rests_38 (by decide) ?_
  refine BS_call (run_V dX8_rests_39 con_X8_refused (ci := 15) rfl rfl q1749 q1751 qs58 q146 q1752 pd_X8_refused ⟨Nat.le_of_ble_eq_true rfl, Nat.le_of_ble_eq_true rfl⟩) BV_no ?_
  exact BS_ireturn dX8_rests_42 rfl
noncomputable def F_X8_rests_b0 : KK OO :=
  op_ald 0 <| op_push (.int 0) <| op_pfi .int [25] 98 <| op_ald 0 <| op_ild 1 <| op_call 2 (f_kd 25 F_X8_isBone) kx_no <| op_ieq (F_X8_rests_b37) (op_ald 0 <| op_ild 2 <| op_ild 3 <| op_call 3 (f_kd 25 F_X8_isPair) kx_no <| op_ieq (F_X8_rests_b37) (op_ald 0 <| op_ald 0 <| op_ild 1 <| op_ild 2 <| op_ild 3 <| op_push (.int (-1)) <| op_call 5 (f_kd 25 F_X8_restAt) kx_no <| op_call 2 (f_kd 25 F_X8_good) kx_no <| op_iret .int))
theorem bs_X8_rests_b0 : B_S M_X8_rests 0 (F_X8_rests_b0) z_O k_O := by
  unfold F_X8_rests_b0
  refine BS_aload_n dX8_rests_0 rfl ?_
  refine BS_iconst dX8_rests_1 (by decide) ?_
  refine BS_pfi p_X8_53 (fun h => by cases h) dX8_rests_2 ?_
  refine BS_aload_n dX8_rests_5 rfl ?_
  refine BS_iload_n dX8_rests_6 rfl ?_
  refine BS_call (run_V dX8_rests_7 con_X8_isBone (ci := 15) rfl rfl q2079 q2081 qs87 q146 q2082 pd_X8_isBone ⟨Nat.le_of_ble_eq_true rfl, Nat.le_of_ble_eq_true rfl⟩) BV_no ?_
  refine BS_if_eq (tgt := 37) dX8_rests_10 (by decide) ?_ ?_
  · exact bs_X8_rests_b37
  · refine BS_aload_n dX8_rests_13 rfl ?_
    refine BS_iload_n dX8_rests_14 rfl ?_
    refine BS_iload_n dX8_rests_15 rfl ?_
    refine BS_call (run_V dX8_rests_16 con_X8_isPair (ci := 15) rfl rfl q2135 q2137 qs95 q146 q2138 pd_X8_isPair ⟨Nat.le_of_ble_eq_true rfl, Nat.le_of_ble_eq_true rfl⟩) BV_no ?_
    refine BS_if_eq (tgt := 37) dX8_rests_19 (by decide) ?_ ?_
    · exact bs_X8_rests_b37
    · refine BS_aload_n dX8_rests_22 rfl ?_
      refine BS_aload_n dX8_rests_23 rfl ?_
      refine BS_iload_n dX8_rests_24 rfl ?_
      refine BS_iload_n dX8_rests_25 rfl ?_
      refine BS_iload_n dX8_rests_26 rfl ?_
      refine BS_iconst dX8_rests_27 (by decide) ?_
      refine BS_call (run_V dX8_rests_28 con_X8_restAt (ci := 15) rfl rfl q2211 q2213 qs106 q146 q2214 pd_X8_restAt ⟨Nat.le_of_ble_eq_true rfl, Nat.le_of_ble_eq_true rfl⟩) BV_no ?_
      refine BS_call (run_V dX8_rests_31 con_X8_good (ci := 15) rfl rfl q2063 q2065 qs86 q146 q2066 pd_X8_good ⟨Nat.le_of_ble_eq_true rfl, Nat.le_of_ble_eq_true rfl⟩) BV_no ?_
      refine BS_goto (tgt := 42) dX8_rests_34 (by decide) ?_
      exact BS_ireturn dX8_rests_42 rfl
noncomputable def F_X8_rests : FF := mk_F 4 F_X8_rests_b0
theorem con_X8_rests : Con_ yX8_rests (ws_ yX8_rests cX8_rests 4 (some .int)) 8 199 F_X8_rests := Con_of (by decide +kernel) bs_X8_rests_b0
/-- LongerHalfModel.rest(III)I -/
abbrev M_X8_rest : MM := (yX8_rest, cX8_rest, (some .int), 8, 199, 4, [])
theorem pd_X8_rest : (yX8_rest.cls ≠ "java/lang/invoke/MethodHandle" ∧ yX8_rest.cls ≠ "java/lang/invoke/VarHandle") ∧ (parseMethodDescriptor yX8_rest.desc).map (fun d => d.parameters.length) = some 3 := ⟨⟨by decide +kernel, by decide +kernel⟩, by decide +kernel⟩
noncomputable def F_X8_rest_b37 : KK OO :=
  op_ald 0 <| op_push (.int 1) <| op_call 2 (f_kd 25 F_X8_refused) kx_no <| op_iret .int
theorem bs_X8_rest_b37 : B_S M_X8_rest 37 (F_X8_rest_b37) z_O k_O := by
  unfold F_X8_rest_b37
  refine BS_aload_n dX8_rest_37 rfl ?_
  refine BS_iconst dX8_rest_38 (by decide) ?_
  refine BS_call (run_V dX8_rest_39 con_X8_refused (ci := 15) rfl rfl q1749 q1751 qs58 q146 q1752 pd_X8_refused ⟨Nat.le_of_ble_eq_true rfl, Nat.le_of_ble_eq_true rfl⟩) BV_no ?_
  exact BS_ireturn dX8_rest_42 rfl
noncomputable def F_X8_rest_b0 : KK OO :=
  op_ald 0 <| op_push (.int 0) <| op_pfi .int [25] 98 <| op_ald 0 <| op_ild 1 <| op_call 2 (f_kd 25 F_X8_isBone) kx_no <| op_ieq (F_X8_rest_b37) (op_ald 0 <| op_ild 2 <| op_ild 3 <| op_call 3 (f_kd 25 F_X8_isPair) kx_no <| op_ieq (F_X8_rest_b37) (op_ald 0 <| op_ald 0 <| op_ild 1 <| op_ild 2 <| op_ild 3 <| op_push (.int 0) <| op_call 5 (f_kd 25 F_X8_restAt) kx_no <| op_call 2 (f_kd 25 F_X8_good) kx_no <| op_iret .int))
theorem bs_X8_rest_b0 : B_S M_X8_rest 0 (F_X8_rest_b0) z_O k_O := by
  unfold F_X8_rest_b0
  refine BS_aload_n dX8_rest_0 rfl ?_
  refine BS_iconst dX8_rest_1 (by decide) ?_
  refine BS_pfi p_X8_53 (fun h => by cases h) dX8_rest_2 ?_
  refine BS_aload_n dX8_rest_5 rfl ?_
  refine BS_iload_n dX8_rest_6 rfl ?_
  refine BS_call (run_V dX8_rest_7 con_X8_isBone (ci := 15) rfl rfl q2079 q2081 qs87 q146 q2082 pd_X8_isBone ⟨Nat.le_of_ble_eq_true rfl, Nat.le_of_ble_eq_true rfl⟩) BV_no ?_
  refine BS_if_eq (tgt := 37) dX8_rest_10 (by decide) ?_ ?_
  · exact bs_X8_rest_b37
  · refine BS_aload_n dX8_rest_13 rfl ?_
    refine BS_iload_n dX8_rest_14 rfl ?_
    refine BS_iload_n dX8_rest_15 rfl ?_
    refine BS_call (run_V dX8_rest_16 con_X8_isPair (ci := 15) rfl rfl q2135 q2137 qs95 q146 q2138 pd_X8_isPair ⟨Nat.le_of_ble_eq_true rfl, Nat.le_of_ble_eq_true rfl⟩) BV_no ?_
    refine BS_if_eq (tgt := 37) dX8_rest_19 (by decide) ?_ ?_
    · exact bs_X8_rest_b37
    · refine BS_aload_n dX8_rest_22 rfl ?_
      refine BS_aload_n dX8_rest_23 rfl ?_
      refine BS_iload_n dX8_rest_24 rfl ?_
      refine BS_iload_n dX8_rest_25 rfl ?_
      refine BS_iload_n dX8_rest_26 rfl ?_
      refine BS_iconst dX8_rest_27 (by decide) ?_
      refine BS_call (run_V dX8_rest_28 con_X8_restAt (ci := 15) rfl rfl q2211 q2213 qs106 q146 q2214 pd_X8_restAt ⟨Nat.le_of_ble_eq_true rfl, Nat.le_of_ble_eq_true rfl⟩) BV_no ?_
      refine BS_call (run_V dX8_rest_31 con_X8_good (ci := 15) rfl rfl q2063 q2065 qs86 q146 q2066 pd_X8_good ⟨Nat.le_of_ble_eq_true rfl, Nat.le_of_ble_eq_true rfl⟩) BV_no ?_
      refine BS_goto (tgt := 42) dX8_rest_34 (by decide) ?_
      exact BS_ireturn dX8_rest_42 rfl
noncomputable def F_X8_rest : FF := mk_F 4 F_X8_rest_b0
theorem con_X8_rest : Con_ yX8_rest (ws_ yX8_rest cX8_rest 4 (some .int)) 8 199 F_X8_rest := Con_of (by decide +kernel) bs_X8_rest_b0
/-- LongerHalfModel.sure(IIIZ)J -/
abbrev M_X8_sure : MM := (yX8_sure, cX8_sure, (some .long), 7, 172, 11, [])
theorem pd_X8_sure : (yX8_sure.cls ≠ "java/lang/invoke/MethodHandle" ∧ yX8_sure.cls ≠ "java/lang/invoke/VarHandle") ∧ (parseMethodDescriptor yX8_sure.desc).map (fun d => d.parameters.length) = some 4 := ⟨⟨by decide +kernel, by decide +kernel⟩, by decide +kernel⟩
noncomputable def F_X8_sure_b22 : KK OO :=
  op_ald 0 <| op_push (.int 1) <| op_call 2 (f_kd 25 F_X8_refused) kx_no <| op_i2l <| op_lret
theorem bs_X8_sure_b22 : B_S M_X8_sure 22 (F_X8_sure_b22) z_O k_O := by
  unfold F_X8_sure_b22
  refine BS_aload_n dX8_sure_22 rfl ?_
  refine BS_iconst dX8_sure_23 (by decide) ?_
  refine BS_call (run_V dX8_sure_24 con_X8_refused (ci := 15) rfl rfl q1749 q1751 qs58 q146 q1752 pd_X8_refused ⟨Nat.le_of_ble_eq_true rfl, Nat.le_of_ble_eq_true rfl⟩) BV_no ?_
  refine BS_i2l dX8_sure_27 ?_
  exact BS_lreturn dX8_sure_28 rfl
noncomputable def F_X8_sure_b119 : KK (L_S ⊕ (L_S ⊕ OO)) :=
  op_ald 0 <| op_gfr [25] 128 <| op_push (.int 12) <| op_ild 7 <| op_i2 (fun x y => x * y) <| op_ild 10 <| op_i2 (fun x y => x + y) <| op_lald <| op_lst 8 <| op_iinc 10 1 <| op_back
theorem bs_X8_sure_b119 : B_S M_X8_sure 119 (F_X8_sure_b119) (z_L (z_L z_O)) (k_L 74 (k_L 44 k_O)) := by
  unfold F_X8_sure_b119
  refine BS_aload_n dX8_sure_119 rfl ?_
  refine BS_gfr f_X8_37 dX8_sure_120 ?_
  refine BS_bipush dX8_sure_123 (by decide) ?_
  refine BS_iload dX8_sure_125 ?_
  refine BS_imul dX8_sure_127 ?_
  refine BS_iload dX8_sure_128 ?_
  refine BS_iadd dX8_sure_130 ?_
  refine BS_laload dX8_sure_131 ?_
  refine BS_lstore dX8_sure_132 (Nat.le_of_ble_eq_true rfl) ?_
  refine BS_iinc dX8_sure_134 (by decide) (Nat.le_of_ble_eq_true rfl) ?_
  refine BS_goto (tgt := 74) dX8_sure_137 (by decide) ?_
  exact BS_back
noncomputable def F_X8_sure_l74 : KK (L_S ⊕ (L_S ⊕ OO)) :=
  op_ild 10 <| op_push (.int 12) <| op_cge (op_exit <| op_lld 8 <| op_lld 5 <| op_lcmp <| op_ile (op_lld 5 <| op_lst 5 <| op_iinc 7 1 <| op_back) (op_lld 8 <| op_lst 5 <| op_iinc 7 1 <| op_back)) (op_ald 0 <| op_ild 3 <| op_ild 1 <| op_push (.int 1) <| op_ild 10 <| op_call 5 (f_kd 25 F_X8_isChoice) kx_no <| op_ieq (op_iinc 10 1 <| op_back) (op_lld 8 <| op_push (.long 0) <| op_lcmp <| op_ilt (F_X8_sure_b119) (op_ald 0 <| op_gfr [25] 128 <| op_push (.int 12) <| op_ild 7 <| op_i2 (fun x y => x * y) <| op_ild 10 <| op_i2 (fun x y => x + y) <| op_lald <| op_lld 8 <| op_lcmp <| op_ige (op_iinc 10 1 <| op_back) (F_X8_sure_b119))))
theorem bs_X8_sure_l74 : B_S M_X8_sure 74 (F_X8_sure_l74) (z_L (z_L z_O)) (k_L 74 (k_L 44 k_O)) := by
  unfold F_X8_sure_l74
  refine BS_iload dX8_sure_74 ?_
  refine BS_bipush dX8_sure_76 (by decide) ?_
  refine BS_icmp_ge (tgt := 140) dX8_sure_78 (by decide) ?_ ?_
  · refine BS_exit ?_
    refine BS_lload dX8_sure_140 ?_
    refine BS_lload dX8_sure_142 ?_
    refine BS_lcmp dX8_sure_144 ?_
    refine BS_if_le (tgt := 153) dX8_sure_145 (by decide) ?_ ?_
    · refine BS_lload dX8_sure_153 ?_
      refine BS_lstore dX8_sure_155 (Nat.le_of_ble_eq_true rfl) ?_
      refine BS_iinc dX8_sure_157 (by decide) (Nat.le_of_ble_eq_true rfl) ?_
      refine BS_goto (tgt := 44) dX8_sure_160 (by decide) ?_
      exact BS_back
    · refine BS_lload dX8_sure_148 ?_
      refine BS_goto (tgt := 155) dX8_sure_150 (by decide) ?_
      refine BS_lstore dX8_sure_155 (Nat.le_of_ble_eq_true rfl) ?_
      refine BS_iinc dX8_sure_157 (by decide) (Nat.le_of_ble_eq_true rfl) ?_
      refine BS_goto (tgt := 44) dX8_sure_160 (by decide) ?_
      exact BS_back
  · refine BS_aload_n dX8_sure_81 rfl ?_
    refine BS_iload_n dX8_sure_82 rfl ?_
    refine BS_iload_n dX8_sure_83 rfl ?_
    refine BS_iconst dX8_sure_84 (by decide) ?_
    refine BS_iload dX8_sure_85 ?_
    refine BS_call (run_V dX8_sure_87 con_X8_isChoice (ci := 15) rfl rfl q2200 q2202 qs105 q146 q2203 pd_X8_isChoice ⟨Nat.le_of_ble_eq_true rfl, Nat.le_of_ble_eq_true rfl⟩) BV_no ?_
    refine BS_if_eq (tgt := 134) dX8_sure_90 (by decide) ?_ ?_
    · refine BS_iinc dX8_sure_134 (by decide) (Nat.le_of_ble_eq_true rfl) ?_
      refine BS_goto (tgt := 74) dX8_sure_137 (by decide) ?_
      exact BS_back
    · refine BS_lload dX8_sure_93 ?_
      refine BS_lconst dX8_sure_95 (by decide) ?_
      refine BS_lcmp dX8_sure_96 ?_
      refine BS_if_lt (tgt := 119) dX8_sure_97 (by decide) ?_ ?_
      · exact bs_X8_sure_b119
      · refine BS_aload_n dX8_sure_100 rfl ?_
        refine BS_gfr f_X8_37 dX8_sure_101 ?_
        refine BS_bipush dX8_sure_104 (by decide) ?_
        refine BS_iload dX8_sure_106 ?_
        refine BS_imul dX8_sure_108 ?_
        refine BS_iload dX8_sure_109 ?_
        refine BS_iadd dX8_sure_111 ?_
        refine BS_laload dX8_sure_112 ?_
        refine BS_lload dX8_sure_113 ?_
        refine BS_lcmp dX8_sure_115 ?_
        refine BS_if_ge (tgt := 134) dX8_sure_116 (by decide) ?_ ?_
        · refine BS_iinc dX8_sure_134 (by decide) (Nat.le_of_ble_eq_true rfl) ?_
          refine BS_goto (tgt := 74) dX8_sure_137 (by decide) ?_
          exact BS_back
        · exact bs_X8_sure_b119
noncomputable def F_X8_sure_b74 : KK (L_S ⊕ OO) := op_loop (F_X8_sure_l74)
theorem bs_X8_sure_b74 : B_S M_X8_sure 74 (F_X8_sure_b74) (z_L z_O) (k_L 44 k_O) := BS_loop (bs_X8_sure_l74)
noncomputable def F_X8_sure_l44 : KK (L_S ⊕ OO) :=
  op_ild 7 <| op_push (.int 12) <| op_cge (op_exit <| op_ald 0 <| op_lld 5 <| op_push (.long 100) <| op_ald 0 <| op_gfr [25] 101 <| op_ild 1 <| op_push (.int 0) <| op_call 3 (f_kd 26 F_X20_many) kx_no <| op_ald 0 <| op_gfr [25] 101 <| op_ild 1 <| op_push (.int 1) <| op_call 3 (f_kd 26 F_X20_many) kx_no <| op_i2 (fun x y => x + y) <| op_i2l <| op_l2 (fun x y => x * y) <| op_ild 4 <| op_call 4 (f_kd 25 F_X8_fraction) kx_no <| op_lret) (op_ald 0 <| op_ild 2 <| op_ild 1 <| op_push (.int 0) <| op_ild 7 <| op_call 5 (f_kd 25 F_X8_isChoice) kx_no <| op_ine (op_push (.long (-1)) <| op_lst 8 <| op_push (.int 0) <| op_ist 10 <| F_X8_sure_b74) (op_iinc 7 1 <| op_back))
theorem bs_X8_sure_l44 : B_S M_X8_sure 44 (F_X8_sure_l44) (z_L z_O) (k_L 44 k_O) := by
  unfold F_X8_sure_l44
  refine BS_iload dX8_sure_44 ?_
  refine BS_bipush dX8_sure_46 (by decide) ?_
  refine BS_icmp_ge (tgt := 163) dX8_sure_48 (by decide) ?_ ?_
  · refine BS_exit ?_
    refine BS_aload_n dX8_sure_163 rfl ?_
    refine BS_lload dX8_sure_164 ?_
    refine BS_ldc2 dX8_sure_166 q2184 ?_
    refine BS_aload_n dX8_sure_169 rfl ?_
    refine BS_gfr f_X8_373 dX8_sure_170 ?_
    refine BS_iload_n dX8_sure_173 rfl ?_
    refine BS_iconst dX8_sure_174 (by decide) ?_
    refine BS_call (run_V dX8_sure_175 con_X20_many (ci := 16) rfl rfl q2083 q2084 q2085 q163 q2086 pd_X20_many ⟨Nat.le_of_ble_eq_true rfl, Nat.le_of_ble_eq_true rfl⟩) BV_no ?_
    refine BS_aload_n dX8_sure_178 rfl ?_
    refine BS_gfr f_X8_373 dX8_sure_179 ?_
    refine BS_iload_n dX8_sure_182 rfl ?_
    refine BS_iconst dX8_sure_183 (by decide) ?_
    refine BS_call (run_V dX8_sure_184 con_X20_many (ci := 16) rfl rfl q2083 q2084 q2085 q163 q2086 pd_X20_many ⟨Nat.le_of_ble_eq_true rfl, Nat.le_of_ble_eq_true rfl⟩) BV_no ?_
    refine BS_iadd dX8_sure_187 ?_
    refine BS_i2l dX8_sure_188 ?_
    refine BS_lmul dX8_sure_189 ?_
    refine BS_iload dX8_sure_190 ?_
    refine BS_call (run_V dX8_sure_192 con_X8_fraction (ci := 15) rfl rfl q2189 q2191 qs104 q146 q2192 pd_X8_fraction ⟨Nat.le_of_ble_eq_true rfl, Nat.le_of_ble_eq_true rfl⟩) BV_no ?_
    exact BS_lreturn dX8_sure_195 rfl
  · refine BS_aload_n dX8_sure_51 rfl ?_
    refine BS_iload_n dX8_sure_52 rfl ?_
    refine BS_iload_n dX8_sure_53 rfl ?_
    refine BS_iconst dX8_sure_54 (by decide) ?_
    refine BS_iload dX8_sure_55 ?_
    refine BS_call (run_V dX8_sure_57 con_X8_isChoice (ci := 15) rfl rfl q2200 q2202 qs105 q146 q2203 pd_X8_isChoice ⟨Nat.le_of_ble_eq_true rfl, Nat.le_of_ble_eq_true rfl⟩) BV_no ?_
    refine BS_if_ne (tgt := 66) dX8_sure_60 (by decide) ?_ ?_
    · refine BS_ldc2 dX8_sure_66 q2163 ?_
      refine BS_lstore dX8_sure_69 (Nat.le_of_ble_eq_true rfl) ?_
      refine BS_iconst dX8_sure_71 (by decide) ?_
      refine BS_istore dX8_sure_72 (Nat.le_of_ble_eq_true rfl) ?_
      exact bs_X8_sure_b74
    · refine BS_goto (tgt := 157) dX8_sure_63 (by decide) ?_
      refine BS_iinc dX8_sure_157 (by decide) (Nat.le_of_ble_eq_true rfl) ?_
      refine BS_goto (tgt := 44) dX8_sure_160 (by decide) ?_
      exact BS_back
noncomputable def F_X8_sure_b44 : KK OO := op_loop (F_X8_sure_l44)
theorem bs_X8_sure_b44 : B_S M_X8_sure 44 (F_X8_sure_b44) z_O k_O := BS_loop (bs_X8_sure_l44)
noncomputable def F_X8_sure_b0 : KK OO :=
  op_ald 0 <| op_push (.int 0) <| op_pfi .int [25] 98 <| op_ald 0 <| op_ild 1 <| op_call 2 (f_kd 25 F_X8_isBone) kx_no <| op_ieq (F_X8_sure_b22) (op_ald 0 <| op_ild 2 <| op_ild 3 <| op_call 3 (f_kd 25 F_X8_isPair) kx_no <| op_ine (op_ald 0 <| op_ild 1 <| op_ild 2 <| op_ild 3 <| op_call 4 (f_kd 25 F_X8_laysGame) kx_no <| op_push (.long (-1)) <| op_lst 5 <| op_push (.int 0) <| op_ist 7 <| F_X8_sure_b44) (F_X8_sure_b22))
theorem bs_X8_sure_b0 : B_S M_X8_sure 0 (F_X8_sure_b0) z_O k_O := by
  unfold F_X8_sure_b0
  refine BS_aload_n dX8_sure_0 rfl ?_
  refine BS_iconst dX8_sure_1 (by decide) ?_
  refine BS_pfi p_X8_53 (fun h => by cases h) dX8_sure_2 ?_
  refine BS_aload_n dX8_sure_5 rfl ?_
  refine BS_iload_n dX8_sure_6 rfl ?_
  refine BS_call (run_V dX8_sure_7 con_X8_isBone (ci := 15) rfl rfl q2079 q2081 qs87 q146 q2082 pd_X8_isBone ⟨Nat.le_of_ble_eq_true rfl, Nat.le_of_ble_eq_true rfl⟩) BV_no ?_
  refine BS_if_eq (tgt := 22) dX8_sure_10 (by decide) ?_ ?_
  · exact bs_X8_sure_b22
  · refine BS_aload_n dX8_sure_13 rfl ?_
    refine BS_iload_n dX8_sure_14 rfl ?_
    refine BS_iload_n dX8_sure_15 rfl ?_
    refine BS_call (run_V dX8_sure_16 con_X8_isPair (ci := 15) rfl rfl q2135 q2137 qs95 q146 q2138 pd_X8_isPair ⟨Nat.le_of_ble_eq_true rfl, Nat.le_of_ble_eq_true rfl⟩) BV_no ?_
    refine BS_if_ne (tgt := 29) dX8_sure_19 (by decide) ?_ ?_
    · refine BS_aload_n dX8_sure_29 rfl ?_
      refine BS_iload_n dX8_sure_30 rfl ?_
      refine BS_iload_n dX8_sure_31 rfl ?_
      refine BS_iload_n dX8_sure_32 rfl ?_
      refine BS_call (run_V dX8_sure_33 con_X8_laysGame (ci := 15) rfl rfl q2215 q2217 qs107 q146 q2218 pd_X8_laysGame ⟨Nat.le_of_ble_eq_true rfl, Nat.le_of_ble_eq_true rfl⟩) BV_no ?_
      refine BS_ldc2 dX8_sure_36 q2163 ?_
      refine BS_lstore dX8_sure_39 (Nat.le_of_ble_eq_true rfl) ?_
      refine BS_iconst dX8_sure_41 (by decide) ?_
      refine BS_istore dX8_sure_42 (Nat.le_of_ble_eq_true rfl) ?_
      exact bs_X8_sure_b44
    · exact bs_X8_sure_b22
noncomputable def F_X8_sure : FF := mk_F 11 F_X8_sure_b0
theorem con_X8_sure : Con_ yX8_sure (ws_ yX8_sure cX8_sure 11 (some .long)) 7 172 F_X8_sure := Con_of (by decide +kernel) bs_X8_sure_b0
/-- LongerHalfModel.laysTold(III)V -/
abbrev M_X8_laysTold : MM := (yX8_laysTold, cX8_laysTold, none, 2, 47, 4, [])
theorem pd_X8_laysTold : (yX8_laysTold.cls ≠ "java/lang/invoke/MethodHandle" ∧ yX8_laysTold.cls ≠ "java/lang/invoke/VarHandle") ∧ (parseMethodDescriptor yX8_laysTold.desc).map (fun d => d.parameters.length) = some 3 := ⟨⟨by decide +kernel, by decide +kernel⟩, by decide +kernel⟩
noncomputable def F_X8_laysTold_b0 : KK OO :=
  op_ald 0 <| op_ild 1 <| op_ild 2 <| op_ald 0 <| op_gfr [25] 101 <| op_ild 2 <| op_ild 1 <| op_push (.int 0) <| op_call 4 (f_kd 26 F_X20_holds) kx_no <| op_ild 3 <| op_ald 0 <| op_gfr [25] 101 <| op_ild 3 <| op_ild 1 <| op_push (.int 1) <| op_call 4 (f_kd 26 F_X20_holds) kx_no <| op_push (.int 2) <| op_call 7 (f_kd 25 F_X8_lays) kx_no <| op_vret
theorem bs_X8_laysTold_b0 : B_S M_X8_laysTold 0 (F_X8_laysTold_b0) z_O k_O := by
  unfold F_X8_laysTold_b0
  refine BS_aload_n dX8_laysTold_0 rfl ?_
  refine BS_iload_n dX8_laysTold_1 rfl ?_
  refine BS_iload_n dX8_laysTold_2 rfl ?_
  refine BS_aload_n dX8_laysTold_3 rfl ?_
  refine BS_gfr f_X8_373 dX8_laysTold_4 ?_
  refine BS_iload_n dX8_laysTold_7 rfl ?_
  refine BS_iload_n dX8_laysTold_8 rfl ?_
  refine BS_iconst dX8_laysTold_9 (by decide) ?_
  refine BS_call (run_V dX8_laysTold_10 con_X20_holds (ci := 16) rfl rfl q2243 q2244 q2245 q163 q2246 pd_X20_holds ⟨Nat.le_of_ble_eq_true rfl, Nat.le_of_ble_eq_true rfl⟩) BV_no ?_
  refine BS_iload_n dX8_laysTold_13 rfl ?_
  refine BS_aload_n dX8_laysTold_14 rfl ?_
  refine BS_gfr f_X8_373 dX8_laysTold_15 ?_
  refine BS_iload_n dX8_laysTold_18 rfl ?_
  refine BS_iload_n dX8_laysTold_19 rfl ?_
  refine BS_iconst dX8_laysTold_20 (by decide) ?_
  refine BS_call (run_V dX8_laysTold_21 con_X20_holds (ci := 16) rfl rfl q2243 q2244 q2245 q163 q2246 pd_X20_holds ⟨Nat.le_of_ble_eq_true rfl, Nat.le_of_ble_eq_true rfl⟩) BV_no ?_
  refine BS_iconst dX8_laysTold_24 (by decide) ?_
  refine BS_call (run_V dX8_laysTold_25 con_X8_lays (ci := 15) rfl rfl q2119 q2121 qs92 q146 q2122 pd_X8_lays ⟨Nat.le_of_ble_eq_true rfl, Nat.le_of_ble_eq_true rfl⟩) BV_no ?_
  exact BS_return dX8_laysTold_28 rfl
noncomputable def F_X8_laysTold : FF := mk_F 4 F_X8_laysTold_b0
theorem con_X8_laysTold : Con_ yX8_laysTold (ws_ yX8_laysTold cX8_laysTold 4 none) 2 47 F_X8_laysTold := Con_of (by decide +kernel) bs_X8_laysTold_b0
/-- LongerHalfModel.curveOf(IIII)J -/
abbrev M_X8_curveOf : MM := (yX8_curveOf, cX8_curveOf, (some .long), 6, 146, 5, [])
theorem pd_X8_curveOf : (yX8_curveOf.cls ≠ "java/lang/invoke/MethodHandle" ∧ yX8_curveOf.cls ≠ "java/lang/invoke/VarHandle") ∧ (parseMethodDescriptor yX8_curveOf.desc).map (fun d => d.parameters.length) = some 4 := ⟨⟨by decide +kernel, by decide +kernel⟩, by decide +kernel⟩
noncomputable def F_X8_curveOf_b0 : KK OO :=
  op_ald 0 <| op_ild 1 <| op_ild 2 <| op_ild 3 <| op_call 4 (f_kd 25 F_X8_laysTold) kx_no <| op_ald 0 <| op_ild 4 <| op_pfi .int [25] 120 <| op_ald 0 <| op_push (.int 0) <| op_call 2 (f_kd 25 F_X8_oddsOf) kx_no <| op_lret
theorem bs_X8_curveOf_b0 : B_S M_X8_curveOf 0 (F_X8_curveOf_b0) z_O k_O := by
  unfold F_X8_curveOf_b0
  refine BS_aload_n dX8_curveOf_0 rfl ?_
  refine BS_iload_n dX8_curveOf_1 rfl ?_
  refine BS_iload_n dX8_curveOf_2 rfl ?_
  refine BS_iload_n dX8_curveOf_3 rfl ?_
  refine BS_call (run_V dX8_curveOf_4 con_X8_laysTold (ci := 15) rfl rfl q2239 q2241 qs110 q146 q2242 pd_X8_laysTold ⟨Nat.le_of_ble_eq_true rfl, Nat.le_of_ble_eq_true rfl⟩) BV_no ?_
  refine BS_aload_n dX8_curveOf_7 rfl ?_
  refine BS_iload dX8_curveOf_8 ?_
  refine BS_pfi p_X8_383 (fun h => by cases h) dX8_curveOf_10 ?_
  refine BS_aload_n dX8_curveOf_13 rfl ?_
  refine BS_iconst dX8_curveOf_14 (by decide) ?_
  refine BS_call (run_V dX8_curveOf_15 con_X8_oddsOf (ci := 15) rfl rfl q2176 q2178 qs101 q146 q2179 pd_X8_oddsOf ⟨Nat.le_of_ble_eq_true rfl, Nat.le_of_ble_eq_true rfl⟩) BV_no ?_
  exact BS_lreturn dX8_curveOf_18 rfl
noncomputable def F_X8_curveOf : FF := mk_F 5 F_X8_curveOf_b0
theorem con_X8_curveOf : Con_ yX8_curveOf (ws_ yX8_curveOf cX8_curveOf 5 (some .long)) 6 146 F_X8_curveOf := Con_of (by decide +kernel) bs_X8_curveOf_b0
/-- LongerHalfModel.curve(IIIIZ)J -/
abbrev M_X8_curve : MM := (yX8_curve, cX8_curve, (some .long), 7, 170, 8, [])
theorem pd_X8_curve : (yX8_curve.cls ≠ "java/lang/invoke/MethodHandle" ∧ yX8_curve.cls ≠ "java/lang/invoke/VarHandle") ∧ (parseMethodDescriptor yX8_curve.desc).map (fun d => d.parameters.length) = some 5 := ⟨⟨by decide +kernel, by decide +kernel⟩, by decide +kernel⟩
noncomputable def F_X8_curve_b22 : KK OO :=
  op_ald 0 <| op_push (.int 1) <| op_call 2 (f_kd 25 F_X8_refused) kx_no <| op_i2l <| op_lret
theorem bs_X8_curve_b22 : B_S M_X8_curve 22 (F_X8_curve_b22) z_O k_O := by
  unfold F_X8_curve_b22
  refine BS_aload_n dX8_curve_22 rfl ?_
  refine BS_iconst dX8_curve_23 (by decide) ?_
  refine BS_call (run_V dX8_curve_24 con_X8_refused (ci := 15) rfl rfl q1749 q1751 qs58 q146 q1752 pd_X8_refused ⟨Nat.le_of_ble_eq_true rfl, Nat.le_of_ble_eq_true rfl⟩) BV_no ?_
  refine BS_i2l dX8_curve_27 ?_
  exact BS_lreturn dX8_curve_28 rfl
noncomputable def F_X8_curve_b0 : KK OO :=
  op_ald 0 <| op_push (.int 0) <| op_pfi .int [25] 98 <| op_ald 0 <| op_ild 1 <| op_call 2 (f_kd 25 F_X8_isBone) kx_no <| op_ieq (F_X8_curve_b22) (op_ald 0 <| op_ild 2 <| op_ild 3 <| op_call 3 (f_kd 25 F_X8_isPair) kx_no <| op_ine (op_ild 4 <| op_push (.int 0) <| op_push (.int 24) <| op_call 3 F_X8_in kx_no <| op_ine (op_ald 0 <| op_ild 1 <| op_ild 2 <| op_ild 3 <| op_ild 4 <| op_call 5 (f_kd 25 F_X8_curveOf) kx_no <| op_lst 6 <| op_ald 0 <| op_lld 6 <| op_push (.long 100) <| op_ald 0 <| op_call 1 (f_kd 25 F_X8_allPlaces) kx_no <| op_i2l <| op_l2 (fun x y => x * y) <| op_ild 5 <| op_call 4 (f_kd 25 F_X8_fraction) kx_no <| op_lret) (op_ald 0 <| op_push (.int 2) <| op_call 2 (f_kd 25 F_X8_refused) kx_no <| op_i2l <| op_lret)) (F_X8_curve_b22))
theorem bs_X8_curve_b0 : B_S M_X8_curve 0 (F_X8_curve_b0) z_O k_O := by
  unfold F_X8_curve_b0
  refine BS_aload_n dX8_curve_0 rfl ?_
  refine BS_iconst dX8_curve_1 (by decide) ?_
  refine BS_pfi p_X8_53 (fun h => by cases h) dX8_curve_2 ?_
  refine BS_aload_n dX8_curve_5 rfl ?_
  refine BS_iload_n dX8_curve_6 rfl ?_
  refine BS_call (run_V dX8_curve_7 con_X8_isBone (ci := 15) rfl rfl q2079 q2081 qs87 q146 q2082 pd_X8_isBone ⟨Nat.le_of_ble_eq_true rfl, Nat.le_of_ble_eq_true rfl⟩) BV_no ?_
  refine BS_if_eq (tgt := 22) dX8_curve_10 (by decide) ?_ ?_
  · exact bs_X8_curve_b22
  · refine BS_aload_n dX8_curve_13 rfl ?_
    refine BS_iload_n dX8_curve_14 rfl ?_
    refine BS_iload_n dX8_curve_15 rfl ?_
    refine BS_call (run_V dX8_curve_16 con_X8_isPair (ci := 15) rfl rfl q2135 q2137 qs95 q146 q2138 pd_X8_isPair ⟨Nat.le_of_ble_eq_true rfl, Nat.le_of_ble_eq_true rfl⟩) BV_no ?_
    refine BS_if_ne (tgt := 29) dX8_curve_19 (by decide) ?_ ?_
    · refine BS_iload dX8_curve_29 ?_
      refine BS_iconst dX8_curve_31 (by decide) ?_
      refine BS_bipush dX8_curve_32 (by decide) ?_
      refine BS_call (run_S dX8_curve_34 con_X8_in q1965 q1966 q146 q1967 pd_X8_in ⟨Nat.le_of_ble_eq_true rfl, Nat.le_of_ble_eq_true rfl⟩) BV_no ?_
      refine BS_if_ne (tgt := 47) dX8_curve_37 (by decide) ?_ ?_
      · refine BS_aload_n dX8_curve_47 rfl ?_
        refine BS_iload_n dX8_curve_48 rfl ?_
        refine BS_iload_n dX8_curve_49 rfl ?_
        refine BS_iload_n dX8_curve_50 rfl ?_
        refine BS_iload dX8_curve_51 ?_
        refine BS_call (run_V dX8_curve_53 con_X8_curveOf (ci := 15) rfl rfl q2235 q2237 qs109 q146 q2238 pd_X8_curveOf ⟨Nat.le_of_ble_eq_true rfl, Nat.le_of_ble_eq_true rfl⟩) BV_no ?_
        refine BS_lstore dX8_curve_56 (Nat.le_of_ble_eq_true rfl) ?_
        refine BS_aload_n dX8_curve_58 rfl ?_
        refine BS_lload dX8_curve_59 ?_
        refine BS_ldc2 dX8_curve_61 q2184 ?_
        refine BS_aload_n dX8_curve_64 rfl ?_
        refine BS_call (run_V dX8_curve_65 con_X8_allPlaces (ci := 15) rfl rfl q2180 q2182 qs102 q146 q2183 pd_X8_allPlaces ⟨Nat.le_of_ble_eq_true rfl, Nat.le_of_ble_eq_true rfl⟩) BV_no ?_
        refine BS_i2l dX8_curve_68 ?_
        refine BS_lmul dX8_curve_69 ?_
        refine BS_iload dX8_curve_70 ?_
        refine BS_call (run_V dX8_curve_72 con_X8_fraction (ci := 15) rfl rfl q2189 q2191 qs104 q146 q2192 pd_X8_fraction ⟨Nat.le_of_ble_eq_true rfl, Nat.le_of_ble_eq_true rfl⟩) BV_no ?_
        exact BS_lreturn dX8_curve_75 rfl
      · refine BS_aload_n dX8_curve_40 rfl ?_
        refine BS_iconst dX8_curve_41 (by decide) ?_
        refine BS_call (run_V dX8_curve_42 con_X8_refused (ci := 15) rfl rfl q1749 q1751 qs58 q146 q1752 pd_X8_refused ⟨Nat.le_of_ble_eq_true rfl, Nat.le_of_ble_eq_true rfl⟩) BV_no ?_
        refine BS_i2l dX8_curve_45 ?_
        exact BS_lreturn dX8_curve_46 rfl
    · exact bs_X8_curve_b22
noncomputable def F_X8_curve : FF := mk_F 8 F_X8_curve_b0
theorem con_X8_curve : Con_ yX8_curve (ws_ yX8_curve cX8_curve 8 (some .long)) 7 170 F_X8_curve := Con_of (by decide +kernel) bs_X8_curve_b0
/-- LongerHalfModel.bestDay(III)I -/
abbrev M_X8_bestDay : MM := (yX8_bestDay, cX8_bestDay, (some .int), 7, 170, 6, [])
theorem pd_X8_bestDay : (yX8_bestDay.cls ≠ "java/lang/invoke/MethodHandle" ∧ yX8_bestDay.cls ≠ "java/lang/invoke/VarHandle") ∧ (parseMethodDescriptor yX8_bestDay.desc).map (fun d => d.parameters.length) = some 3 := ⟨⟨by decide +kernel, by decide +kernel⟩, by decide +kernel⟩
noncomputable def F_X8_bestDay_b22 : KK OO :=
  op_ald 0 <| op_push (.int 1) <| op_call 2 (f_kd 25 F_X8_refused) kx_no <| op_iret .int
theorem bs_X8_bestDay_b22 : B_S M_X8_bestDay 22 (F_X8_bestDay_b22) z_O k_O := by
  unfold F_X8_bestDay_b22
  refine BS_aload_n dX8_bestDay_22 rfl ?_
  refine BS_iconst dX8_bestDay_23 (by decide) ?_
  refine BS_call (run_V dX8_bestDay_24 con_X8_refused (ci := 15) rfl rfl q1749 q1751 qs58 q146 q1752 pd_X8_refused ⟨Nat.le_of_ble_eq_true rfl, Nat.le_of_ble_eq_true rfl⟩) BV_no ?_
  exact BS_ireturn dX8_bestDay_27 rfl
noncomputable def F_X8_bestDay_l34 : KK (L_S ⊕ OO) :=
  op_ild 5 <| op_push (.int 24) <| op_cgt (op_exit <| op_ald 0 <| op_ild 4 <| op_call 2 (f_kd 25 F_X8_good) kx_no <| op_iret .int) (op_ald 0 <| op_ild 1 <| op_ild 2 <| op_ild 3 <| op_ild 5 <| op_call 5 (f_kd 25 F_X8_curveOf) kx_no <| op_ald 0 <| op_ild 1 <| op_ild 2 <| op_ild 3 <| op_ild 4 <| op_call 5 (f_kd 25 F_X8_curveOf) kx_no <| op_lcmp <| op_ile (op_iinc 5 1 <| op_back) (op_ild 5 <| op_ist 4 <| op_iinc 5 1 <| op_back))
theorem bs_X8_bestDay_l34 : B_S M_X8_bestDay 34 (F_X8_bestDay_l34) (z_L z_O) (k_L 34 k_O) := by
  unfold F_X8_bestDay_l34
  refine BS_iload dX8_bestDay_34 ?_
  refine BS_bipush dX8_bestDay_36 (by decide) ?_
  refine BS_icmp_gt (tgt := 73) dX8_bestDay_38 (by decide) ?_ ?_
  · refine BS_exit ?_
    refine BS_aload_n dX8_bestDay_73 rfl ?_
    refine BS_iload dX8_bestDay_74 ?_
    refine BS_call (run_V dX8_bestDay_76 con_X8_good (ci := 15) rfl rfl q2063 q2065 qs86 q146 q2066 pd_X8_good ⟨Nat.le_of_ble_eq_true rfl, Nat.le_of_ble_eq_true rfl⟩) BV_no ?_
    exact BS_ireturn dX8_bestDay_79 rfl
  · refine BS_aload_n dX8_bestDay_41 rfl ?_
    refine BS_iload_n dX8_bestDay_42 rfl ?_
    refine BS_iload_n dX8_bestDay_43 rfl ?_
    refine BS_iload_n dX8_bestDay_44 rfl ?_
    refine BS_iload dX8_bestDay_45 ?_
    refine BS_call (run_V dX8_bestDay_47 con_X8_curveOf (ci := 15) rfl rfl q2235 q2237 qs109 q146 q2238 pd_X8_curveOf ⟨Nat.le_of_ble_eq_true rfl, Nat.le_of_ble_eq_true rfl⟩) BV_no ?_
    refine BS_aload_n dX8_bestDay_50 rfl ?_
    refine BS_iload_n dX8_bestDay_51 rfl ?_
    refine BS_iload_n dX8_bestDay_52 rfl ?_
    refine BS_iload_n dX8_bestDay_53 rfl ?_
    refine BS_iload dX8_bestDay_54 ?_
    refine BS_call (run_V dX8_bestDay_56 con_X8_curveOf (ci := 15) rfl rfl q2235 q2237 qs109 q146 q2238 pd_X8_curveOf ⟨Nat.le_of_ble_eq_true rfl, Nat.le_of_ble_eq_true rfl⟩) BV_no ?_
    refine BS_lcmp dX8_bestDay_59 ?_
    refine BS_if_le (tgt := 67) dX8_bestDay_60 (by decide) ?_ ?_
    · refine BS_iinc dX8_bestDay_67 (by decide) (Nat.le_of_ble_eq_true rfl) ?_
      refine BS_goto (tgt := 34) dX8_bestDay_70 (by decide) ?_
      exact BS_back
    · refine BS_iload dX8_bestDay_63 ?_
      refine BS_istore dX8_bestDay_65 (Nat.le_of_ble_eq_true rfl) ?_
      refine BS_iinc dX8_bestDay_67 (by decide) (Nat.le_of_ble_eq_true rfl) ?_
      refine BS_goto (tgt := 34) dX8_bestDay_70 (by decide) ?_
      exact BS_back
noncomputable def F_X8_bestDay_b34 : KK OO := op_loop (F_X8_bestDay_l34)
theorem bs_X8_bestDay_b34 : B_S M_X8_bestDay 34 (F_X8_bestDay_b34) z_O k_O := BS_loop (bs_X8_bestDay_l34)
noncomputable def F_X8_bestDay_b0 : KK OO :=
  op_ald 0 <| op_push (.int 0) <| op_pfi .int [25] 98 <| op_ald 0 <| op_ild 1 <| op_call 2 (f_kd 25 F_X8_isBone) kx_no <| op_ieq (F_X8_bestDay_b22) (op_ald 0 <| op_ild 2 <| op_ild 3 <| op_call 3 (f_kd 25 F_X8_isPair) kx_no <| op_ine (op_push (.int 0) <| op_ist 4 <| op_push (.int 1) <| op_ist 5 <| F_X8_bestDay_b34) (F_X8_bestDay_b22))
theorem bs_X8_bestDay_b0 : B_S M_X8_bestDay 0 (F_X8_bestDay_b0) z_O k_O := by
  unfold F_X8_bestDay_b0
  refine BS_aload_n dX8_bestDay_0 rfl ?_
  refine BS_iconst dX8_bestDay_1 (by decide) ?_
  refine BS_pfi p_X8_53 (fun h => by cases h) dX8_bestDay_2 ?_
  refine BS_aload_n dX8_bestDay_5 rfl ?_
  refine BS_iload_n dX8_bestDay_6 rfl ?_
  refine BS_call (run_V dX8_bestDay_7 con_X8_isBone (ci := 15) rfl rfl q2079 q2081 qs87 q146 q2082 pd_X8_isBone ⟨Nat.le_of_ble_eq_true rfl, Nat.le_of_ble_eq_true rfl⟩) BV_no ?_
  refine BS_if_eq (tgt := 22) dX8_bestDay_10 (by decide) ?_ ?_
  · exact bs_X8_bestDay_b22
  · refine BS_aload_n dX8_bestDay_13 rfl ?_
    refine BS_iload_n dX8_bestDay_14 rfl ?_
    refine BS_iload_n dX8_bestDay_15 rfl ?_
    refine BS_call (run_V dX8_bestDay_16 con_X8_isPair (ci := 15) rfl rfl q2135 q2137 qs95 q146 q2138 pd_X8_isPair ⟨Nat.le_of_ble_eq_true rfl, Nat.le_of_ble_eq_true rfl⟩) BV_no ?_
    refine BS_if_ne (tgt := 28) dX8_bestDay_19 (by decide) ?_ ?_
    · refine BS_iconst dX8_bestDay_28 (by decide) ?_
      refine BS_istore dX8_bestDay_29 (Nat.le_of_ble_eq_true rfl) ?_
      refine BS_iconst dX8_bestDay_31 (by decide) ?_
      refine BS_istore dX8_bestDay_32 (Nat.le_of_ble_eq_true rfl) ?_
      exact bs_X8_bestDay_b34
    · exact bs_X8_bestDay_b22
noncomputable def F_X8_bestDay : FF := mk_F 6 F_X8_bestDay_b0
theorem con_X8_bestDay : Con_ yX8_bestDay (ws_ yX8_bestDay cX8_bestDay 6 (some .int)) 7 170 F_X8_bestDay := Con_of (by decide +kernel) bs_X8_bestDay_b0
/-- LongerHalfModel.oddsWith(IIII)J -/
abbrev M_X8_oddsWith : MM := (yX8_oddsWith, cX8_oddsWith, (some .long), 6, 146, 5, [])
theorem pd_X8_oddsWith : (yX8_oddsWith.cls ≠ "java/lang/invoke/MethodHandle" ∧ yX8_oddsWith.cls ≠ "java/lang/invoke/VarHandle") ∧ (parseMethodDescriptor yX8_oddsWith.desc).map (fun d => d.parameters.length) = some 4 := ⟨⟨by decide +kernel, by decide +kernel⟩, by decide +kernel⟩
noncomputable def F_X8_oddsWith_b22 : KK OO :=
  op_call 4 (f_kd 25 F_X8_laysTold) kx_no <| op_ald 0 <| op_ild 4 <| op_call 2 (f_kd 25 F_X8_oddsOf) kx_no <| op_lret
theorem bs_X8_oddsWith_b22 : B_S M_X8_oddsWith 22 (F_X8_oddsWith_b22) z_O k_O := by
  unfold F_X8_oddsWith_b22
  refine BS_call (run_V dX8_oddsWith_22 con_X8_laysTold (ci := 15) rfl rfl q2239 q2241 qs110 q146 q2242 pd_X8_laysTold ⟨Nat.le_of_ble_eq_true rfl, Nat.le_of_ble_eq_true rfl⟩) BV_no ?_
  refine BS_aload_n dX8_oddsWith_25 rfl ?_
  refine BS_iload dX8_oddsWith_26 ?_
  refine BS_call (run_V dX8_oddsWith_28 con_X8_oddsOf (ci := 15) rfl rfl q2176 q2178 qs101 q146 q2179 pd_X8_oddsOf ⟨Nat.le_of_ble_eq_true rfl, Nat.le_of_ble_eq_true rfl⟩) BV_no ?_
  exact BS_lreturn dX8_oddsWith_31 rfl
noncomputable def F_X8_oddsWith_b12 : KK OO :=
  op_ild 4 <| op_ine (op_ild 2 <| F_X8_oddsWith_b22) (op_ild 3 <| F_X8_oddsWith_b22)
theorem bs_X8_oddsWith_b12 : B_S M_X8_oddsWith 12 (F_X8_oddsWith_b12) z_O k_O := by
  unfold F_X8_oddsWith_b12
  refine BS_iload dX8_oddsWith_12 ?_
  refine BS_if_ne (tgt := 21) dX8_oddsWith_14 (by decide) ?_ ?_
  · refine BS_iload_n dX8_oddsWith_21 rfl ?_
    exact bs_X8_oddsWith_b22
  · refine BS_iload_n dX8_oddsWith_17 rfl ?_
    refine BS_goto (tgt := 22) dX8_oddsWith_18 (by decide) ?_
    exact bs_X8_oddsWith_b22
noncomputable def F_X8_oddsWith_b0 : KK OO :=
  op_ald 0 <| op_ild 1 <| op_ild 4 <| op_ine (op_ild 3 <| F_X8_oddsWith_b12) (op_ild 2 <| F_X8_oddsWith_b12)
theorem bs_X8_oddsWith_b0 : B_S M_X8_oddsWith 0 (F_X8_oddsWith_b0) z_O k_O := by
  unfold F_X8_oddsWith_b0
  refine BS_aload_n dX8_oddsWith_0 rfl ?_
  refine BS_iload_n dX8_oddsWith_1 rfl ?_
  refine BS_iload dX8_oddsWith_2 ?_
  refine BS_if_ne (tgt := 11) dX8_oddsWith_4 (by decide) ?_ ?_
  · refine BS_iload_n dX8_oddsWith_11 rfl ?_
    exact bs_X8_oddsWith_b12
  · refine BS_iload_n dX8_oddsWith_7 rfl ?_
    refine BS_goto (tgt := 12) dX8_oddsWith_8 (by decide) ?_
    exact bs_X8_oddsWith_b12
noncomputable def F_X8_oddsWith : FF := mk_F 5 F_X8_oddsWith_b0
theorem con_X8_oddsWith : Con_ yX8_oddsWith (ws_ yX8_oddsWith cX8_oddsWith 5 (some .long)) 6 146 F_X8_oddsWith := Con_of (by decide +kernel) bs_X8_oddsWith_b0
/-- LongerHalfModel.thickness(II)I -/
abbrev M_X8_thickness : MM := (yX8_thickness, cX8_thickness, (some .int), 1, 23, 5, [])
theorem pd_X8_thickness : (yX8_thickness.cls ≠ "java/lang/invoke/MethodHandle" ∧ yX8_thickness.cls ≠ "java/lang/invoke/VarHandle") ∧ (parseMethodDescriptor yX8_thickness.desc).map (fun d => d.parameters.length) = some 2 := ⟨⟨by decide +kernel, by decide +kernel⟩, by decide +kernel⟩
noncomputable def F_X8_thickness_l5 : KK (L_S ⊕ OO) :=
  op_ild 4 <| op_ald 0 <| op_gfr [25] 101 <| op_ild 1 <| op_ild 2 <| op_call 3 (f_kd 26 F_X20_many) kx_no <| op_cge (op_exit <| op_ild 3 <| op_iret .int) (op_ild 3 <| op_ald 0 <| op_gfr [25] 101 <| op_ild 1 <| op_ild 2 <| op_ild 4 <| op_call 4 (f_kd 26 F_X20_thickAt) kx_no <| op_i2 (fun x y => x + y) <| op_ist 3 <| op_iinc 4 1 <| op_back)
theorem bs_X8_thickness_l5 : B_S M_X8_thickness 5 (F_X8_thickness_l5) (z_L z_O) (k_L 5 k_O) := by
  unfold F_X8_thickness_l5
  refine BS_iload dX8_thickness_5 ?_
  refine BS_aload_n dX8_thickness_7 rfl ?_
  refine BS_gfr f_X8_373 dX8_thickness_8 ?_
  refine BS_iload_n dX8_thickness_11 rfl ?_
  refine BS_iload_n dX8_thickness_12 rfl ?_
  refine BS_call (run_V dX8_thickness_13 con_X20_many (ci := 16) rfl rfl q2083 q2084 q2085 q163 q2086 pd_X20_many ⟨Nat.le_of_ble_eq_true rfl, Nat.le_of_ble_eq_true rfl⟩) BV_no ?_
  refine BS_icmp_ge (tgt := 39) dX8_thickness_16 (by decide) ?_ ?_
  · refine BS_exit ?_
    refine BS_iload_n dX8_thickness_39 rfl ?_
    exact BS_ireturn dX8_thickness_40 rfl
  · refine BS_iload_n dX8_thickness_19 rfl ?_
    refine BS_aload_n dX8_thickness_20 rfl ?_
    refine BS_gfr f_X8_373 dX8_thickness_21 ?_
    refine BS_iload_n dX8_thickness_24 rfl ?_
    refine BS_iload_n dX8_thickness_25 rfl ?_
    refine BS_iload dX8_thickness_26 ?_
    refine BS_call (run_V dX8_thickness_28 con_X20_thickAt (ci := 16) rfl rfl q2095 q2096 q2097 q163 q2098 pd_X20_thickAt ⟨Nat.le_of_ble_eq_true rfl, Nat.le_of_ble_eq_true rfl⟩) BV_no ?_
    refine BS_iadd dX8_thickness_31 ?_
    refine BS_istore_n dX8_thickness_32 rfl (Nat.le_of_ble_eq_true rfl) ?_
    refine BS_iinc dX8_thickness_33 (by decide) (Nat.le_of_ble_eq_true rfl) ?_
    refine BS_goto (tgt := 5) dX8_thickness_36 (by decide) ?_
    exact BS_back
noncomputable def F_X8_thickness_b5 : KK OO := op_loop (F_X8_thickness_l5)
theorem bs_X8_thickness_b5 : B_S M_X8_thickness 5 (F_X8_thickness_b5) z_O k_O := BS_loop (bs_X8_thickness_l5)
noncomputable def F_X8_thickness_b0 : KK OO :=
  op_push (.int 0) <| op_ist 3 <| op_push (.int 0) <| op_ist 4 <| F_X8_thickness_b5
theorem bs_X8_thickness_b0 : B_S M_X8_thickness 0 (F_X8_thickness_b0) z_O k_O := by
  unfold F_X8_thickness_b0
  refine BS_iconst dX8_thickness_0 (by decide) ?_
  refine BS_istore_n dX8_thickness_1 rfl (Nat.le_of_ble_eq_true rfl) ?_
  refine BS_iconst dX8_thickness_2 (by decide) ?_
  refine BS_istore dX8_thickness_3 (Nat.le_of_ble_eq_true rfl) ?_
  exact bs_X8_thickness_b5
noncomputable def F_X8_thickness : FF := mk_F 5 F_X8_thickness_b0
theorem con_X8_thickness : Con_ yX8_thickness (ws_ yX8_thickness cX8_thickness 5 (some .int)) 1 23 F_X8_thickness := Con_of (by decide +kernel) bs_X8_thickness_b0
/-- LongerHalfModel.chosen(III)I -/
abbrev M_X8_chosen : MM := (yX8_chosen, cX8_chosen, (some .int), 7, 170, 4, [])
theorem pd_X8_chosen : (yX8_chosen.cls ≠ "java/lang/invoke/MethodHandle" ∧ yX8_chosen.cls ≠ "java/lang/invoke/VarHandle") ∧ (parseMethodDescriptor yX8_chosen.desc).map (fun d => d.parameters.length) = some 3 := ⟨⟨by decide +kernel, by decide +kernel⟩, by decide +kernel⟩
noncomputable def F_X8_chosen_b0 : KK OO :=
  op_ald 0 <| op_gfr [25] 101 <| op_gfr [26] 153 <| op_ild 2 <| op_iald 1 <| op_push (.int 1) <| op_cne (op_ald 0 <| op_ild 1 <| op_ild 2 <| op_ild 3 <| op_push (.int 1) <| op_call 5 (f_kd 25 F_X8_oddsWith) kx_no <| op_ald 0 <| op_ild 1 <| op_ild 2 <| op_ild 3 <| op_push (.int 0) <| op_call 5 (f_kd 25 F_X8_oddsWith) kx_no <| op_lcmp <| op_ile (op_push (.int 0) <| op_iret .int) (op_push (.int 1) <| op_iret .int)) (op_ald 0 <| op_ild 1 <| op_push (.int 1) <| op_call 3 (f_kd 25 F_X8_thickness) kx_no <| op_ald 0 <| op_ild 1 <| op_push (.int 0) <| op_call 3 (f_kd 25 F_X8_thickness) kx_no <| op_cle (op_push (.int 0) <| op_iret .int) (op_push (.int 1) <| op_iret .int))
theorem bs_X8_chosen_b0 : B_S M_X8_chosen 0 (F_X8_chosen_b0) z_O k_O := by
  unfold F_X8_chosen_b0
  refine BS_aload_n dX8_chosen_0 rfl ?_
  refine BS_gfr f_X8_373 dX8_chosen_1 ?_
  refine BS_gfr f_X8_307 dX8_chosen_4 ?_
  refine BS_iload_n dX8_chosen_7 rfl ?_
  refine BS_iaload dX8_chosen_8 ?_
  refine BS_iconst dX8_chosen_9 (by decide) ?_
  refine BS_icmp_ne (tgt := 34) dX8_chosen_10 (by decide) ?_ ?_
  · refine BS_aload_n dX8_chosen_34 rfl ?_
    refine BS_iload_n dX8_chosen_35 rfl ?_
    refine BS_iload_n dX8_chosen_36 rfl ?_
    refine BS_iload_n dX8_chosen_37 rfl ?_
    refine BS_iconst dX8_chosen_38 (by decide) ?_
    refine BS_call (run_V dX8_chosen_39 con_X8_oddsWith (ci := 15) rfl rfl q2260 q2262 qs112 q146 q2263 pd_X8_oddsWith ⟨Nat.le_of_ble_eq_true rfl, Nat.le_of_ble_eq_true rfl⟩) BV_no ?_
    refine BS_aload_n dX8_chosen_42 rfl ?_
    refine BS_iload_n dX8_chosen_43 rfl ?_
    refine BS_iload_n dX8_chosen_44 rfl ?_
    refine BS_iload_n dX8_chosen_45 rfl ?_
    refine BS_iconst dX8_chosen_46 (by decide) ?_
    refine BS_call (run_V dX8_chosen_47 con_X8_oddsWith (ci := 15) rfl rfl q2260 q2262 qs112 q146 q2263 pd_X8_oddsWith ⟨Nat.le_of_ble_eq_true rfl, Nat.le_of_ble_eq_true rfl⟩) BV_no ?_
    refine BS_lcmp dX8_chosen_50 ?_
    refine BS_if_le (tgt := 58) dX8_chosen_51 (by decide) ?_ ?_
    · refine BS_iconst dX8_chosen_58 (by decide) ?_
      exact BS_ireturn dX8_chosen_59 rfl
    · refine BS_iconst dX8_chosen_54 (by decide) ?_
      refine BS_goto (tgt := 59) dX8_chosen_55 (by decide) ?_
      exact BS_ireturn dX8_chosen_59 rfl
  · refine BS_aload_n dX8_chosen_13 rfl ?_
    refine BS_iload_n dX8_chosen_14 rfl ?_
    refine BS_iconst dX8_chosen_15 (by decide) ?_
    refine BS_call (run_V dX8_chosen_16 con_X8_thickness (ci := 15) rfl rfl q2268 q2270 qs114 q146 q2271 pd_X8_thickness ⟨Nat.le_of_ble_eq_true rfl, Nat.le_of_ble_eq_true rfl⟩) BV_no ?_
    refine BS_aload_n dX8_chosen_19 rfl ?_
    refine BS_iload_n dX8_chosen_20 rfl ?_
    refine BS_iconst dX8_chosen_21 (by decide) ?_
    refine BS_call (run_V dX8_chosen_22 con_X8_thickness (ci := 15) rfl rfl q2268 q2270 qs114 q146 q2271 pd_X8_thickness ⟨Nat.le_of_ble_eq_true rfl, Nat.le_of_ble_eq_true rfl⟩) BV_no ?_
    refine BS_icmp_le (tgt := 32) dX8_chosen_25 (by decide) ?_ ?_
    · refine BS_iconst dX8_chosen_32 (by decide) ?_
      exact BS_ireturn dX8_chosen_33 rfl
    · refine BS_iconst dX8_chosen_28 (by decide) ?_
      refine BS_goto (tgt := 33) dX8_chosen_29 (by decide) ?_
      exact BS_ireturn dX8_chosen_33 rfl
noncomputable def F_X8_chosen : FF := mk_F 4 F_X8_chosen_b0
theorem con_X8_chosen : Con_ yX8_chosen (ws_ yX8_chosen cX8_chosen 4 (some .int)) 7 170 F_X8_chosen := Con_of (by decide +kernel) bs_X8_chosen_b0
/-- LongerHalfModel.byLaw(IIII)J -/
abbrev M_X8_byLaw : MM := (yX8_byLaw, cX8_byLaw, (some .long), 8, 193, 6, [])
theorem pd_X8_byLaw : (yX8_byLaw.cls ≠ "java/lang/invoke/MethodHandle" ∧ yX8_byLaw.cls ≠ "java/lang/invoke/VarHandle") ∧ (parseMethodDescriptor yX8_byLaw.desc).map (fun d => d.parameters.length) = some 4 := ⟨⟨by decide +kernel, by decide +kernel⟩, by decide +kernel⟩
noncomputable def F_X8_byLaw_b59 : KK OO :=
  op_ist 5 <| op_push (.long 2) <| op_ald 0 <| op_ild 2 <| op_ild 3 <| op_ild 4 <| op_ild 5 <| op_call 5 (f_kd 25 F_X8_oddsWith) kx_no <| op_l2 (fun x y => x * y) <| op_lret
theorem bs_X8_byLaw_b59 : B_S M_X8_byLaw 59 (F_X8_byLaw_b59) z_O k_O := by
  unfold F_X8_byLaw_b59
  refine BS_istore dX8_byLaw_59 (Nat.le_of_ble_eq_true rfl) ?_
  refine BS_ldc2 dX8_byLaw_61 q2272 ?_
  refine BS_aload_n dX8_byLaw_64 rfl ?_
  refine BS_iload_n dX8_byLaw_65 rfl ?_
  refine BS_iload_n dX8_byLaw_66 rfl ?_
  refine BS_iload dX8_byLaw_67 ?_
  refine BS_iload dX8_byLaw_69 ?_
  refine BS_call (run_V dX8_byLaw_71 con_X8_oddsWith (ci := 15) rfl rfl q2260 q2262 qs112 q146 q2263 pd_X8_oddsWith ⟨Nat.le_of_ble_eq_true rfl, Nat.le_of_ble_eq_true rfl⟩) BV_no ?_
  refine BS_lmul dX8_byLaw_74 ?_
  exact BS_lreturn dX8_byLaw_75 rfl
noncomputable def F_X8_byLaw_b0 : KK OO :=
  op_ild 1 <| op_push (.int 3) <| op_cne (op_ild 1 <| op_ine (op_ild 1 <| op_push (.int 1) <| op_cne (op_push (.int 1) <| op_ald 0 <| op_ild 2 <| op_ild 4 <| op_ild 3 <| op_call 4 (f_kd 25 F_X8_chosen) kx_no <| op_i2 (fun x y => x - y) <| F_X8_byLaw_b59) (op_ald 0 <| op_ild 2 <| op_ild 3 <| op_ild 4 <| op_call 4 (f_kd 25 F_X8_chosen) kx_no <| F_X8_byLaw_b59)) (op_push (.int 0) <| F_X8_byLaw_b59)) (op_ald 0 <| op_ild 2 <| op_ild 3 <| op_ild 4 <| op_push (.int 0) <| op_call 5 (f_kd 25 F_X8_oddsWith) kx_no <| op_ald 0 <| op_ild 2 <| op_ild 3 <| op_ild 4 <| op_push (.int 1) <| op_call 5 (f_kd 25 F_X8_oddsWith) kx_no <| op_l2 (fun x y => x + y) <| op_lret)
theorem bs_X8_byLaw_b0 : B_S M_X8_byLaw 0 (F_X8_byLaw_b0) z_O k_O := by
  unfold F_X8_byLaw_b0
  refine BS_iload_n dX8_byLaw_0 rfl ?_
  refine BS_iconst dX8_byLaw_1 (by decide) ?_
  refine BS_icmp_ne (tgt := 25) dX8_byLaw_2 (by decide) ?_ ?_
  · refine BS_iload_n dX8_byLaw_25 rfl ?_
    refine BS_if_ne (tgt := 33) dX8_byLaw_26 (by decide) ?_ ?_
    · refine BS_iload_n dX8_byLaw_33 rfl ?_
      refine BS_iconst dX8_byLaw_34 (by decide) ?_
      refine BS_icmp_ne (tgt := 49) dX8_byLaw_35 (by decide) ?_ ?_
      · refine BS_iconst dX8_byLaw_49 (by decide) ?_
        refine BS_aload_n dX8_byLaw_50 rfl ?_
        refine BS_iload_n dX8_byLaw_51 rfl ?_
        refine BS_iload dX8_byLaw_52 ?_
        refine BS_iload_n dX8_byLaw_54 rfl ?_
        refine BS_call (run_V dX8_byLaw_55 con_X8_chosen (ci := 15) rfl rfl q2264 q2266 qs113 q146 q2267 pd_X8_chosen ⟨Nat.le_of_ble_eq_true rfl, Nat.le_of_ble_eq_true rfl⟩) BV_no ?_
        refine BS_isub dX8_byLaw_58 ?_
        exact bs_X8_byLaw_b59
      · refine BS_aload_n dX8_byLaw_38 rfl ?_
        refine BS_iload_n dX8_byLaw_39 rfl ?_
        refine BS_iload_n dX8_byLaw_40 rfl ?_
        refine BS_iload dX8_byLaw_41 ?_
        refine BS_call (run_V dX8_byLaw_43 con_X8_chosen (ci := 15) rfl rfl q2264 q2266 qs113 q146 q2267 pd_X8_chosen ⟨Nat.le_of_ble_eq_true rfl, Nat.le_of_ble_eq_true rfl⟩) BV_no ?_
        refine BS_goto (tgt := 59) dX8_byLaw_46 (by decide) ?_
        exact bs_X8_byLaw_b59
    · refine BS_iconst dX8_byLaw_29 (by decide) ?_
      refine BS_goto (tgt := 59) dX8_byLaw_30 (by decide) ?_
      exact bs_X8_byLaw_b59
  · refine BS_aload_n dX8_byLaw_5 rfl ?_
    refine BS_iload_n dX8_byLaw_6 rfl ?_
    refine BS_iload_n dX8_byLaw_7 rfl ?_
    refine BS_iload dX8_byLaw_8 ?_
    refine BS_iconst dX8_byLaw_10 (by decide) ?_
    refine BS_call (run_V dX8_byLaw_11 con_X8_oddsWith (ci := 15) rfl rfl q2260 q2262 qs112 q146 q2263 pd_X8_oddsWith ⟨Nat.le_of_ble_eq_true rfl, Nat.le_of_ble_eq_true rfl⟩) BV_no ?_
    refine BS_aload_n dX8_byLaw_14 rfl ?_
    refine BS_iload_n dX8_byLaw_15 rfl ?_
    refine BS_iload_n dX8_byLaw_16 rfl ?_
    refine BS_iload dX8_byLaw_17 ?_
    refine BS_iconst dX8_byLaw_19 (by decide) ?_
    refine BS_call (run_V dX8_byLaw_20 con_X8_oddsWith (ci := 15) rfl rfl q2260 q2262 qs112 q146 q2263 pd_X8_oddsWith ⟨Nat.le_of_ble_eq_true rfl, Nat.le_of_ble_eq_true rfl⟩) BV_no ?_
    refine BS_ladd dX8_byLaw_23 ?_
    exact BS_lreturn dX8_byLaw_24 rfl
noncomputable def F_X8_byLaw : FF := mk_F 6 F_X8_byLaw_b0
theorem con_X8_byLaw : Con_ yX8_byLaw (ws_ yX8_byLaw cX8_byLaw 6 (some .long)) 8 193 F_X8_byLaw := Con_of (by decide +kernel) bs_X8_byLaw_b0
/-- LongerHalfModel.lawOdds(IIIIZ)J -/
abbrev M_X8_lawOdds : MM := (yX8_lawOdds, cX8_lawOdds, (some .long), 9, 218, 8, [])
theorem pd_X8_lawOdds : (yX8_lawOdds.cls ≠ "java/lang/invoke/MethodHandle" ∧ yX8_lawOdds.cls ≠ "java/lang/invoke/VarHandle") ∧ (parseMethodDescriptor yX8_lawOdds.desc).map (fun d => d.parameters.length) = some 5 := ⟨⟨by decide +kernel, by decide +kernel⟩, by decide +kernel⟩
noncomputable def F_X8_lawOdds_b32 : KK OO :=
  op_ald 0 <| op_push (.int 1) <| op_call 2 (f_kd 25 F_X8_refused) kx_no <| op_i2l <| op_lret
theorem bs_X8_lawOdds_b32 : B_S M_X8_lawOdds 32 (F_X8_lawOdds_b32) z_O k_O := by
  unfold F_X8_lawOdds_b32
  refine BS_aload_n dX8_lawOdds_32 rfl ?_
  refine BS_iconst dX8_lawOdds_33 (by decide) ?_
  refine BS_call (run_V dX8_lawOdds_34 con_X8_refused (ci := 15) rfl rfl q1749 q1751 qs58 q146 q1752 pd_X8_refused ⟨Nat.le_of_ble_eq_true rfl, Nat.le_of_ble_eq_true rfl⟩) BV_no ?_
  refine BS_i2l dX8_lawOdds_37 ?_
  exact BS_lreturn dX8_lawOdds_38 rfl
noncomputable def F_X8_lawOdds_b0 : KK OO :=
  op_ald 0 <| op_push (.int 0) <| op_pfi .int [25] 98 <| op_ild 1 <| op_push (.int 0) <| op_push (.int 3) <| op_call 3 F_X8_in kx_no <| op_ieq (F_X8_lawOdds_b32) (op_ald 0 <| op_ild 2 <| op_call 2 (f_kd 25 F_X8_isBone) kx_no <| op_ieq (F_X8_lawOdds_b32) (op_ald 0 <| op_ild 3 <| op_ild 4 <| op_call 3 (f_kd 25 F_X8_isPair) kx_no <| op_ine (op_ald 0 <| op_ild 1 <| op_ild 2 <| op_ild 3 <| op_ild 4 <| op_call 5 (f_kd 25 F_X8_byLaw) kx_no <| op_lst 6 <| op_ald 0 <| op_lld 6 <| op_push (.long 200) <| op_ald 0 <| op_call 1 (f_kd 25 F_X8_allPlaces) kx_no <| op_i2l <| op_l2 (fun x y => x * y) <| op_ild 5 <| op_call 4 (f_kd 25 F_X8_fraction) kx_no <| op_lret) (F_X8_lawOdds_b32)))
theorem bs_X8_lawOdds_b0 : B_S M_X8_lawOdds 0 (F_X8_lawOdds_b0) z_O k_O := by
  unfold F_X8_lawOdds_b0
  refine BS_aload_n dX8_lawOdds_0 rfl ?_
  refine BS_iconst dX8_lawOdds_1 (by decide) ?_
  refine BS_pfi p_X8_53 (fun h => by cases h) dX8_lawOdds_2 ?_
  refine BS_iload_n dX8_lawOdds_5 rfl ?_
  refine BS_iconst dX8_lawOdds_6 (by decide) ?_
  refine BS_iconst dX8_lawOdds_7 (by decide) ?_
  refine BS_call (run_S dX8_lawOdds_8 con_X8_in q1965 q1966 q146 q1967 pd_X8_in ⟨Nat.le_of_ble_eq_true rfl, Nat.le_of_ble_eq_true rfl⟩) BV_no ?_
  refine BS_if_eq (tgt := 32) dX8_lawOdds_11 (by decide) ?_ ?_
  · exact bs_X8_lawOdds_b32
  · refine BS_aload_n dX8_lawOdds_14 rfl ?_
    refine BS_iload_n dX8_lawOdds_15 rfl ?_
    refine BS_call (run_V dX8_lawOdds_16 con_X8_isBone (ci := 15) rfl rfl q2079 q2081 qs87 q146 q2082 pd_X8_isBone ⟨Nat.le_of_ble_eq_true rfl, Nat.le_of_ble_eq_true rfl⟩) BV_no ?_
    refine BS_if_eq (tgt := 32) dX8_lawOdds_19 (by decide) ?_ ?_
    · exact bs_X8_lawOdds_b32
    · refine BS_aload_n dX8_lawOdds_22 rfl ?_
      refine BS_iload_n dX8_lawOdds_23 rfl ?_
      refine BS_iload dX8_lawOdds_24 ?_
      refine BS_call (run_V dX8_lawOdds_26 con_X8_isPair (ci := 15) rfl rfl q2135 q2137 qs95 q146 q2138 pd_X8_isPair ⟨Nat.le_of_ble_eq_true rfl, Nat.le_of_ble_eq_true rfl⟩) BV_no ?_
      refine BS_if_ne (tgt := 39) dX8_lawOdds_29 (by decide) ?_ ?_
      · refine BS_aload_n dX8_lawOdds_39 rfl ?_
        refine BS_iload_n dX8_lawOdds_40 rfl ?_
        refine BS_iload_n dX8_lawOdds_41 rfl ?_
        refine BS_iload_n dX8_lawOdds_42 rfl ?_
        refine BS_iload dX8_lawOdds_43 ?_
        refine BS_call (run_V dX8_lawOdds_45 con_X8_byLaw (ci := 15) rfl rfl q2256 q2258 qs111 q146 q2259 pd_X8_byLaw ⟨Nat.le_of_ble_eq_true rfl, Nat.le_of_ble_eq_true rfl⟩) BV_no ?_
        refine BS_lstore dX8_lawOdds_48 (Nat.le_of_ble_eq_true rfl) ?_
        refine BS_aload_n dX8_lawOdds_50 rfl ?_
        refine BS_lload dX8_lawOdds_51 ?_
        refine BS_ldc2 dX8_lawOdds_53 q2273 ?_
        refine BS_aload_n dX8_lawOdds_56 rfl ?_
        refine BS_call (run_V dX8_lawOdds_57 con_X8_allPlaces (ci := 15) rfl rfl q2180 q2182 qs102 q146 q2183 pd_X8_allPlaces ⟨Nat.le_of_ble_eq_true rfl, Nat.le_of_ble_eq_true rfl⟩) BV_no ?_
        refine BS_i2l dX8_lawOdds_60 ?_
        refine BS_lmul dX8_lawOdds_61 ?_
        refine BS_iload dX8_lawOdds_62 ?_
        refine BS_call (run_V dX8_lawOdds_64 con_X8_fraction (ci := 15) rfl rfl q2189 q2191 qs104 q146 q2192 pd_X8_fraction ⟨Nat.le_of_ble_eq_true rfl, Nat.le_of_ble_eq_true rfl⟩) BV_no ?_
        exact BS_lreturn dX8_lawOdds_67 rfl
      · exact bs_X8_lawOdds_b32
noncomputable def F_X8_lawOdds : FF := mk_F 8 F_X8_lawOdds_b0
theorem con_X8_lawOdds : Con_ yX8_lawOdds (ws_ yX8_lawOdds cX8_lawOdds 8 (some .long)) 9 218 F_X8_lawOdds := Con_of (by decide +kernel) bs_X8_lawOdds_b0
/-- LongerHalfModel.fromHalf(IIII)J -/
abbrev M_X8_fromHalf : MM := (yX8_fromHalf, cX8_fromHalf, (some .long), 9, 218, 7, [])
theorem pd_X8_fromHalf : (yX8_fromHalf.cls ≠ "java/lang/invoke/MethodHandle" ∧ yX8_fromHalf.cls ≠ "java/lang/invoke/VarHandle") ∧ (parseMethodDescriptor yX8_fromHalf.desc).map (fun d => d.parameters.length) = some 4 := ⟨⟨by decide +kernel, by decide +kernel⟩, by decide +kernel⟩
noncomputable def F_X8_fromHalf_b0 : KK OO :=
  op_ald 0 <| op_ild 1 <| op_ild 2 <| op_ild 3 <| op_ild 4 <| op_call 5 (f_kd 25 F_X8_byLaw) kx_no <| op_push (.long 100) <| op_ald 0 <| op_call 1 (f_kd 25 F_X8_allPlaces) kx_no <| op_i2l <| op_l2 (fun x y => x * y) <| op_l2 (fun x y => x - y) <| op_lst 5 <| op_lld 5 <| op_push (.long 0) <| op_lcmp <| op_ige (op_lld 5 <| op_lret) (op_lld 5 <| op_l1 (fun x => -x) <| op_lret)
theorem bs_X8_fromHalf_b0 : B_S M_X8_fromHalf 0 (F_X8_fromHalf_b0) z_O k_O := by
  unfold F_X8_fromHalf_b0
  refine BS_aload_n dX8_fromHalf_0 rfl ?_
  refine BS_iload_n dX8_fromHalf_1 rfl ?_
  refine BS_iload_n dX8_fromHalf_2 rfl ?_
  refine BS_iload_n dX8_fromHalf_3 rfl ?_
  refine BS_iload dX8_fromHalf_4 ?_
  refine BS_call (run_V dX8_fromHalf_6 con_X8_byLaw (ci := 15) rfl rfl q2256 q2258 qs111 q146 q2259 pd_X8_byLaw ⟨Nat.le_of_ble_eq_true rfl, Nat.le_of_ble_eq_true rfl⟩) BV_no ?_
  refine BS_ldc2 dX8_fromHalf_9 q2184 ?_
  refine BS_aload_n dX8_fromHalf_12 rfl ?_
  refine BS_call (run_V dX8_fromHalf_13 con_X8_allPlaces (ci := 15) rfl rfl q2180 q2182 qs102 q146 q2183 pd_X8_allPlaces ⟨Nat.le_of_ble_eq_true rfl, Nat.le_of_ble_eq_true rfl⟩) BV_no ?_
  refine BS_i2l dX8_fromHalf_16 ?_
  refine BS_lmul dX8_fromHalf_17 ?_
  refine BS_lsub dX8_fromHalf_18 ?_
  refine BS_lstore dX8_fromHalf_19 (Nat.le_of_ble_eq_true rfl) ?_
  refine BS_lload dX8_fromHalf_21 ?_
  refine BS_lconst dX8_fromHalf_23 (by decide) ?_
  refine BS_lcmp dX8_fromHalf_24 ?_
  refine BS_if_ge (tgt := 34) dX8_fromHalf_25 (by decide) ?_ ?_
  · refine BS_lload dX8_fromHalf_34 ?_
    exact BS_lreturn dX8_fromHalf_36 rfl
  · refine BS_lload dX8_fromHalf_28 ?_
    refine BS_lneg dX8_fromHalf_30 ?_
    refine BS_goto (tgt := 36) dX8_fromHalf_31 (by decide) ?_
    exact BS_lreturn dX8_fromHalf_36 rfl
noncomputable def F_X8_fromHalf : FF := mk_F 7 F_X8_fromHalf_b0
theorem con_X8_fromHalf : Con_ yX8_fromHalf (ws_ yX8_fromHalf cX8_fromHalf 7 (some .long)) 9 218 F_X8_fromHalf := Con_of (by decide +kernel) bs_X8_fromHalf_b0
/-- LongerHalfModel.fairest(III)I -/
abbrev M_X8_fairest : MM := (yX8_fairest, cX8_fairest, (some .int), 10, 244, 6, [])
theorem pd_X8_fairest : (yX8_fairest.cls ≠ "java/lang/invoke/MethodHandle" ∧ yX8_fairest.cls ≠ "java/lang/invoke/VarHandle") ∧ (parseMethodDescriptor yX8_fairest.desc).map (fun d => d.parameters.length) = some 3 := ⟨⟨by decide +kernel, by decide +kernel⟩, by decide +kernel⟩
noncomputable def F_X8_fairest_b22 : KK OO :=
  op_ald 0 <| op_push (.int 1) <| op_call 2 (f_kd 25 F_X8_refused) kx_no <| op_iret .int
theorem bs_X8_fairest_b22 : B_S M_X8_fairest 22 (F_X8_fairest_b22) z_O k_O := by
  unfold F_X8_fairest_b22
  refine BS_aload_n dX8_fairest_22 rfl ?_
  refine BS_iconst dX8_fairest_23 (by decide) ?_
  refine BS_call (run_V dX8_fairest_24 con_X8_refused (ci := 15) rfl rfl q1749 q1751 qs58 q146 q1752 pd_X8_refused ⟨Nat.le_of_ble_eq_true rfl, Nat.le_of_ble_eq_true rfl⟩) BV_no ?_
  exact BS_ireturn dX8_fairest_27 rfl
noncomputable def F_X8_fairest_l34 : KK (L_S ⊕ OO) :=
  op_ild 5 <| op_push (.int 4) <| op_cge (op_exit <| op_ald 0 <| op_ild 4 <| op_call 2 (f_kd 25 F_X8_good) kx_no <| op_iret .int) (op_ald 0 <| op_ild 5 <| op_ild 1 <| op_ild 2 <| op_ild 3 <| op_call 5 (f_kd 25 F_X8_fromHalf) kx_no <| op_ald 0 <| op_ild 4 <| op_ild 1 <| op_ild 2 <| op_ild 3 <| op_call 5 (f_kd 25 F_X8_fromHalf) kx_no <| op_lcmp <| op_ige (op_iinc 5 1 <| op_back) (op_ild 5 <| op_ist 4 <| op_iinc 5 1 <| op_back))
theorem bs_X8_fairest_l34 : B_S M_X8_fairest 34 (F_X8_fairest_l34) (z_L z_O) (k_L 34 k_O) := by
  unfold F_X8_fairest_l34
  refine BS_iload dX8_fairest_34 ?_
  refine BS_iconst dX8_fairest_36 (by decide) ?_
  refine BS_icmp_ge (tgt := 72) dX8_fairest_37 (by decide) ?_ ?_
  · refine BS_exit ?_
    refine BS_aload_n dX8_fairest_72 rfl ?_
    refine BS_iload dX8_fairest_73 ?_
    refine BS_call (run_V dX8_fairest_75 con_X8_good (ci := 15) rfl rfl q2063 q2065 qs86 q146 q2066 pd_X8_good ⟨Nat.le_of_ble_eq_true rfl, Nat.le_of_ble_eq_true rfl⟩) BV_no ?_
    exact BS_ireturn dX8_fairest_78 rfl
  · refine BS_aload_n dX8_fairest_40 rfl ?_
    refine BS_iload dX8_fairest_41 ?_
    refine BS_iload_n dX8_fairest_43 rfl ?_
    refine BS_iload_n dX8_fairest_44 rfl ?_
    refine BS_iload_n dX8_fairest_45 rfl ?_
    refine BS_call (run_V dX8_fairest_46 con_X8_fromHalf (ci := 15) rfl rfl q2278 q2280 qs115 q146 q2281 pd_X8_fromHalf ⟨Nat.le_of_ble_eq_true rfl, Nat.le_of_ble_eq_true rfl⟩) BV_no ?_
    refine BS_aload_n dX8_fairest_49 rfl ?_
    refine BS_iload dX8_fairest_50 ?_
    refine BS_iload_n dX8_fairest_52 rfl ?_
    refine BS_iload_n dX8_fairest_53 rfl ?_
    refine BS_iload_n dX8_fairest_54 rfl ?_
    refine BS_call (run_V dX8_fairest_55 con_X8_fromHalf (ci := 15) rfl rfl q2278 q2280 qs115 q146 q2281 pd_X8_fromHalf ⟨Nat.le_of_ble_eq_true rfl, Nat.le_of_ble_eq_true rfl⟩) BV_no ?_
    refine BS_lcmp dX8_fairest_58 ?_
    refine BS_if_ge (tgt := 66) dX8_fairest_59 (by decide) ?_ ?_
    · refine BS_iinc dX8_fairest_66 (by decide) (Nat.le_of_ble_eq_true rfl) ?_
      refine BS_goto (tgt := 34) dX8_fairest_69 (by decide) ?_
      exact BS_back
    · refine BS_iload dX8_fairest_62 ?_
      refine BS_istore dX8_fairest_64 (Nat.le_of_ble_eq_true rfl) ?_
      refine BS_iinc dX8_fairest_66 (by decide) (Nat.le_of_ble_eq_true rfl) ?_
      refine BS_goto (tgt := 34) dX8_fairest_69 (by decide) ?_
      exact BS_back
noncomputable def F_X8_fairest_b34 : KK OO := op_loop (F_X8_fairest_l34)
theorem bs_X8_fairest_b34 : B_S M_X8_fairest 34 (F_X8_fairest_b34) z_O k_O := BS_loop (bs_X8_fairest_l34)
noncomputable def F_X8_fairest_b0 : KK OO :=
  op_ald 0 <| op_push (.int 0) <| op_pfi .int [25] 98 <| op_ald 0 <| op_ild 1 <| op_call 2 (f_kd 25 F_X8_isBone) kx_no <| op_ieq (F_X8_fairest_b22) (op_ald 0 <| op_ild 2 <| op_ild 3 <| op_call 3 (f_kd 25 F_X8_isPair) kx_no <| op_ine (op_push (.int 0) <| op_ist 4 <| op_push (.int 1) <| op_ist 5 <| F_X8_fairest_b34) (F_X8_fairest_b22))
theorem bs_X8_fairest_b0 : B_S M_X8_fairest 0 (F_X8_fairest_b0) z_O k_O := by
  unfold F_X8_fairest_b0
  refine BS_aload_n dX8_fairest_0 rfl ?_
  refine BS_iconst dX8_fairest_1 (by decide) ?_
  refine BS_pfi p_X8_53 (fun h => by cases h) dX8_fairest_2 ?_
  refine BS_aload_n dX8_fairest_5 rfl ?_
  refine BS_iload_n dX8_fairest_6 rfl ?_
  refine BS_call (run_V dX8_fairest_7 con_X8_isBone (ci := 15) rfl rfl q2079 q2081 qs87 q146 q2082 pd_X8_isBone ⟨Nat.le_of_ble_eq_true rfl, Nat.le_of_ble_eq_true rfl⟩) BV_no ?_
  refine BS_if_eq (tgt := 22) dX8_fairest_10 (by decide) ?_ ?_
  · exact bs_X8_fairest_b22
  · refine BS_aload_n dX8_fairest_13 rfl ?_
    refine BS_iload_n dX8_fairest_14 rfl ?_
    refine BS_iload_n dX8_fairest_15 rfl ?_
    refine BS_call (run_V dX8_fairest_16 con_X8_isPair (ci := 15) rfl rfl q2135 q2137 qs95 q146 q2138 pd_X8_isPair ⟨Nat.le_of_ble_eq_true rfl, Nat.le_of_ble_eq_true rfl⟩) BV_no ?_
    refine BS_if_ne (tgt := 28) dX8_fairest_19 (by decide) ?_ ?_
    · refine BS_iconst dX8_fairest_28 (by decide) ?_
      refine BS_istore dX8_fairest_29 (Nat.le_of_ble_eq_true rfl) ?_
      refine BS_iconst dX8_fairest_31 (by decide) ?_
      refine BS_istore dX8_fairest_32 (Nat.le_of_ble_eq_true rfl) ?_
      exact bs_X8_fairest_b34
    · exact bs_X8_fairest_b22
noncomputable def F_X8_fairest : FF := mk_F 6 F_X8_fairest_b0
theorem con_X8_fairest : Con_ yX8_fairest (ws_ yX8_fairest cX8_fairest 6 (some .int)) 10 244 F_X8_fairest := Con_of (by decide +kernel) bs_X8_fairest_b0
/-- LongerHalfModel.greater(I)I -/
abbrev M_X8_greater : MM := (yX8_greater, cX8_greater, (some .int), 0, 0, 4, [])
theorem pd_X8_greater : (yX8_greater.cls ≠ "java/lang/invoke/MethodHandle" ∧ yX8_greater.cls ≠ "java/lang/invoke/VarHandle") ∧ (parseMethodDescriptor yX8_greater.desc).map (fun d => d.parameters.length) = some 1 := ⟨⟨by decide +kernel, by decide +kernel⟩, by decide +kernel⟩
noncomputable def F_X8_greater_l4 : KK (L_S ⊕ OO) :=
  op_ild 3 <| op_ald 0 <| op_gfr [25] 101 <| op_gfi [26] 143 <| op_cge (op_exit <| op_push (.int (-1)) <| op_iret .int) (op_ild 2 <| op_ald 0 <| op_gfr [25] 101 <| op_gfi [26] 143 <| op_push (.int 1) <| op_i2 (fun x y => x - y) <| op_ild 3 <| op_i2 (fun x y => x - y) <| op_cge (op_ild 2 <| op_ald 0 <| op_gfr [25] 101 <| op_gfi [26] 143 <| op_push (.int 1) <| op_i2 (fun x y => x - y) <| op_ild 3 <| op_i2 (fun x y => x - y) <| op_i2 (fun x y => x - y) <| op_ist 2 <| op_iinc 3 1 <| op_back) (op_exit <| op_ild 3 <| op_push (.int 1) <| op_i2 (fun x y => x + y) <| op_ild 2 <| op_i2 (fun x y => x + y) <| op_iret .int))
theorem bs_X8_greater_l4 : B_S M_X8_greater 4 (F_X8_greater_l4) (z_L z_O) (k_L 4 k_O) := by
  unfold F_X8_greater_l4
  refine BS_iload_n dX8_greater_4 rfl ?_
  refine BS_aload_n dX8_greater_5 rfl ?_
  refine BS_gfr f_X8_373 dX8_greater_6 ?_
  refine BS_gfi f_X8_213 dX8_greater_9 ?_
  refine BS_icmp_ge (tgt := 56) dX8_greater_12 (by decide) ?_ ?_
  · refine BS_exit ?_
    refine BS_iconst dX8_greater_56 (by decide) ?_
    exact BS_ireturn dX8_greater_57 rfl
  · refine BS_iload_n dX8_greater_15 rfl ?_
    refine BS_aload_n dX8_greater_16 rfl ?_
    refine BS_gfr f_X8_373 dX8_greater_17 ?_
    refine BS_gfi f_X8_213 dX8_greater_20 ?_
    refine BS_iconst dX8_greater_23 (by decide) ?_
    refine BS_isub dX8_greater_24 ?_
    refine BS_iload_n dX8_greater_25 rfl ?_
    refine BS_isub dX8_greater_26 ?_
    refine BS_icmp_ge (tgt := 36) dX8_greater_27 (by decide) ?_ ?_
    · refine BS_iload_n dX8_greater_36 rfl ?_
      refine BS_aload_n dX8_greater_37 rfl ?_
      refine BS_gfr f_X8_373 dX8_greater_38 ?_
      refine BS_gfi f_X8_213 dX8_greater_41 ?_
      refine BS_iconst dX8_greater_44 (by decide) ?_
      refine BS_isub dX8_greater_45 ?_
      refine BS_iload_n dX8_greater_46 rfl ?_
      refine BS_isub dX8_greater_47 ?_
      refine BS_isub dX8_greater_48 ?_
      refine BS_istore_n dX8_greater_49 rfl (Nat.le_of_ble_eq_true rfl) ?_
      refine BS_iinc dX8_greater_50 (by decide) (Nat.le_of_ble_eq_true rfl) ?_
      refine BS_goto (tgt := 4) dX8_greater_53 (by decide) ?_
      exact BS_back
    · refine BS_exit ?_
      refine BS_iload_n dX8_greater_30 rfl ?_
      refine BS_iconst dX8_greater_31 (by decide) ?_
      refine BS_iadd dX8_greater_32 ?_
      refine BS_iload_n dX8_greater_33 rfl ?_
      refine BS_iadd dX8_greater_34 ?_
      exact BS_ireturn dX8_greater_35 rfl
noncomputable def F_X8_greater_b4 : KK OO := op_loop (F_X8_greater_l4)
theorem bs_X8_greater_b4 : B_S M_X8_greater 4 (F_X8_greater_b4) z_O k_O := BS_loop (bs_X8_greater_l4)
noncomputable def F_X8_greater_b0 : KK OO :=
  op_ild 1 <| op_ist 2 <| op_push (.int 0) <| op_ist 3 <| F_X8_greater_b4
theorem bs_X8_greater_b0 : B_S M_X8_greater 0 (F_X8_greater_b0) z_O k_O := by
  unfold F_X8_greater_b0
  refine BS_iload_n dX8_greater_0 rfl ?_
  refine BS_istore_n dX8_greater_1 rfl (Nat.le_of_ble_eq_true rfl) ?_
  refine BS_iconst dX8_greater_2 (by decide) ?_
  refine BS_istore_n dX8_greater_3 rfl (Nat.le_of_ble_eq_true rfl) ?_
  exact bs_X8_greater_b4
noncomputable def F_X8_greater : FF := mk_F 4 F_X8_greater_b0
theorem con_X8_greater : Con_ yX8_greater (ws_ yX8_greater cX8_greater 4 (some .int)) 0 0 F_X8_greater := Con_of (by decide +kernel) bs_X8_greater_b0
/-- LongerHalfModel.lesser(I)I -/
abbrev M_X8_lesser : MM := (yX8_lesser, cX8_lesser, (some .int), 0, 0, 4, [])
theorem pd_X8_lesser : (yX8_lesser.cls ≠ "java/lang/invoke/MethodHandle" ∧ yX8_lesser.cls ≠ "java/lang/invoke/VarHandle") ∧ (parseMethodDescriptor yX8_lesser.desc).map (fun d => d.parameters.length) = some 1 := ⟨⟨by decide +kernel, by decide +kernel⟩, by decide +kernel⟩
noncomputable def F_X8_lesser_l4 : KK (L_S ⊕ OO) :=
  op_ild 3 <| op_ald 0 <| op_gfr [25] 101 <| op_gfi [26] 143 <| op_cge (op_exit <| op_push (.int (-1)) <| op_iret .int) (op_ild 2 <| op_ald 0 <| op_gfr [25] 101 <| op_gfi [26] 143 <| op_push (.int 1) <| op_i2 (fun x y => x - y) <| op_ild 3 <| op_i2 (fun x y => x - y) <| op_cge (op_ild 2 <| op_ald 0 <| op_gfr [25] 101 <| op_gfi [26] 143 <| op_push (.int 1) <| op_i2 (fun x y => x - y) <| op_ild 3 <| op_i2 (fun x y => x - y) <| op_i2 (fun x y => x - y) <| op_ist 2 <| op_iinc 3 1 <| op_back) (op_exit <| op_ild 3 <| op_iret .int))
theorem bs_X8_lesser_l4 : B_S M_X8_lesser 4 (F_X8_lesser_l4) (z_L z_O) (k_L 4 k_O) := by
  unfold F_X8_lesser_l4
  refine BS_iload_n dX8_lesser_4 rfl ?_
  refine BS_aload_n dX8_lesser_5 rfl ?_
  refine BS_gfr f_X8_373 dX8_lesser_6 ?_
  refine BS_gfi f_X8_213 dX8_lesser_9 ?_
  refine BS_icmp_ge (tgt := 52) dX8_lesser_12 (by decide) ?_ ?_
  · refine BS_exit ?_
    refine BS_iconst dX8_lesser_52 (by decide) ?_
    exact BS_ireturn dX8_lesser_53 rfl
  · refine BS_iload_n dX8_lesser_15 rfl ?_
    refine BS_aload_n dX8_lesser_16 rfl ?_
    refine BS_gfr f_X8_373 dX8_lesser_17 ?_
    refine BS_gfi f_X8_213 dX8_lesser_20 ?_
    refine BS_iconst dX8_lesser_23 (by decide) ?_
    refine BS_isub dX8_lesser_24 ?_
    refine BS_iload_n dX8_lesser_25 rfl ?_
    refine BS_isub dX8_lesser_26 ?_
    refine BS_icmp_ge (tgt := 32) dX8_lesser_27 (by decide) ?_ ?_
    · refine BS_iload_n dX8_lesser_32 rfl ?_
      refine BS_aload_n dX8_lesser_33 rfl ?_
      refine BS_gfr f_X8_373 dX8_lesser_34 ?_
      refine BS_gfi f_X8_213 dX8_lesser_37 ?_
      refine BS_iconst dX8_lesser_40 (by decide) ?_
      refine BS_isub dX8_lesser_41 ?_
      refine BS_iload_n dX8_lesser_42 rfl ?_
      refine BS_isub dX8_lesser_43 ?_
      refine BS_isub dX8_lesser_44 ?_
      refine BS_istore_n dX8_lesser_45 rfl (Nat.le_of_ble_eq_true rfl) ?_
      refine BS_iinc dX8_lesser_46 (by decide) (Nat.le_of_ble_eq_true rfl) ?_
      refine BS_goto (tgt := 4) dX8_lesser_49 (by decide) ?_
      exact BS_back
    · refine BS_exit ?_
      refine BS_iload_n dX8_lesser_30 rfl ?_
      exact BS_ireturn dX8_lesser_31 rfl
noncomputable def F_X8_lesser_b4 : KK OO := op_loop (F_X8_lesser_l4)
theorem bs_X8_lesser_b4 : B_S M_X8_lesser 4 (F_X8_lesser_b4) z_O k_O := BS_loop (bs_X8_lesser_l4)
noncomputable def F_X8_lesser_b0 : KK OO :=
  op_ild 1 <| op_ist 2 <| op_push (.int 0) <| op_ist 3 <| F_X8_lesser_b4
theorem bs_X8_lesser_b0 : B_S M_X8_lesser 0 (F_X8_lesser_b0) z_O k_O := by
  unfold F_X8_lesser_b0
  refine BS_iload_n dX8_lesser_0 rfl ?_
  refine BS_istore_n dX8_lesser_1 rfl (Nat.le_of_ble_eq_true rfl) ?_
  refine BS_iconst dX8_lesser_2 (by decide) ?_
  refine BS_istore_n dX8_lesser_3 rfl (Nat.le_of_ble_eq_true rfl) ?_
  exact bs_X8_lesser_b4
noncomputable def F_X8_lesser : FF := mk_F 4 F_X8_lesser_b0
theorem con_X8_lesser : Con_ yX8_lesser (ws_ yX8_lesser cX8_lesser 4 (some .int)) 0 0 F_X8_lesser := Con_of (by decide +kernel) bs_X8_lesser_b0
/-- LongerHalfModel.counts(II)V -/
abbrev M_X8_counts : MM := (yX8_counts, cX8_counts, none, 1, 23, 3, [])
theorem pd_X8_counts : (yX8_counts.cls ≠ "java/lang/invoke/MethodHandle" ∧ yX8_counts.cls ≠ "java/lang/invoke/VarHandle") ∧ (parseMethodDescriptor yX8_counts.desc).map (fun d => d.parameters.length) = some 2 := ⟨⟨by decide +kernel, by decide +kernel⟩, by decide +kernel⟩
noncomputable def F_X8_counts_b0 : KK OO :=
  op_ald 0 <| op_gfr [25] 131 <| op_ald 0 <| op_ild 1 <| op_call 2 (f_kd 25 F_X8_lesser) kx_no <| op_dup2 <| op_iald 1 <| op_ild 2 <| op_i2 (fun x y => x + y) <| op_iast 1 .int <| op_ald 0 <| op_gfr [25] 131 <| op_ald 0 <| op_ild 1 <| op_call 2 (f_kd 25 F_X8_greater) kx_no <| op_dup2 <| op_iald 1 <| op_ild 2 <| op_i2 (fun x y => x + y) <| op_iast 1 .int <| op_vret
theorem bs_X8_counts_b0 : B_S M_X8_counts 0 (F_X8_counts_b0) z_O k_O := by
  unfold F_X8_counts_b0
  refine BS_aload_n dX8_counts_0 rfl ?_
  refine BS_gfr f_X8_47 dX8_counts_1 ?_
  refine BS_aload_n dX8_counts_4 rfl ?_
  refine BS_iload_n dX8_counts_5 rfl ?_
  refine BS_call (run_V dX8_counts_6 con_X8_lesser (ci := 15) rfl rfl q2302 q2304 qs120 q146 q2305 pd_X8_lesser ⟨Nat.le_of_ble_eq_true rfl, Nat.le_of_ble_eq_true rfl⟩) BV_no ?_
  refine BS_dup2 dX8_counts_9 ?_
  refine BS_iaload dX8_counts_10 ?_
  refine BS_iload_n dX8_counts_11 rfl ?_
  refine BS_iadd dX8_counts_12 ?_
  refine BS_iastore dX8_counts_13 ?_
  refine BS_aload_n dX8_counts_14 rfl ?_
  refine BS_gfr f_X8_47 dX8_counts_15 ?_
  refine BS_aload_n dX8_counts_18 rfl ?_
  refine BS_iload_n dX8_counts_19 rfl ?_
  refine BS_call (run_V dX8_counts_20 con_X8_greater (ci := 15) rfl rfl q2306 q2308 qs121 q146 q2309 pd_X8_greater ⟨Nat.le_of_ble_eq_true rfl, Nat.le_of_ble_eq_true rfl⟩) BV_no ?_
  refine BS_dup2 dX8_counts_23 ?_
  refine BS_iaload dX8_counts_24 ?_
  refine BS_iload_n dX8_counts_25 rfl ?_
  refine BS_iadd dX8_counts_26 ?_
  refine BS_iastore dX8_counts_27 ?_
  exact BS_return dX8_counts_28 rfl
noncomputable def F_X8_counts : FF := mk_F 3 F_X8_counts_b0
theorem con_X8_counts : Con_ yX8_counts (ws_ yX8_counts cX8_counts 3 none) 1 23 F_X8_counts := Con_of (by decide +kernel) bs_X8_counts_b0
/-- LongerHalfModel.isFair()Z -/
abbrev M_X8_isFair : MM := (yX8_isFair, cX8_isFair, (some .boolean), 0, 0, 4, [])
theorem pd_X8_isFair : (yX8_isFair.cls ≠ "java/lang/invoke/MethodHandle" ∧ yX8_isFair.cls ≠ "java/lang/invoke/VarHandle") ∧ (parseMethodDescriptor yX8_isFair.desc).map (fun d => d.parameters.length) = some 0 := ⟨⟨by decide +kernel, by decide +kernel⟩, by decide +kernel⟩
noncomputable def F_X8_isFair_b38 : KK (L_S ⊕ OO) :=
  op_ist 1 <| op_ald 0 <| op_gfr [25] 131 <| op_ild 3 <| op_iald 1 <| op_ild 2 <| op_cge (op_ild 2 <| op_ist 2 <| op_iinc 3 1 <| op_back) (op_ald 0 <| op_gfr [25] 131 <| op_ild 3 <| op_iald 1 <| op_ist 2 <| op_iinc 3 1 <| op_back)
theorem bs_X8_isFair_b38 : B_S M_X8_isFair 38 (F_X8_isFair_b38) (z_L z_O) (k_L 7 k_O) := by
  unfold F_X8_isFair_b38
  refine BS_istore_n dX8_isFair_38 rfl (Nat.le_of_ble_eq_true rfl) ?_
  refine BS_aload_n dX8_isFair_39 rfl ?_
  refine BS_gfr f_X8_47 dX8_isFair_40 ?_
  refine BS_iload_n dX8_isFair_43 rfl ?_
  refine BS_iaload dX8_isFair_44 ?_
  refine BS_iload_n dX8_isFair_45 rfl ?_
  refine BS_icmp_ge (tgt := 58) dX8_isFair_46 (by decide) ?_ ?_
  · refine BS_iload_n dX8_isFair_58 rfl ?_
    refine BS_istore_n dX8_isFair_59 rfl (Nat.le_of_ble_eq_true rfl) ?_
    refine BS_iinc dX8_isFair_60 (by decide) (Nat.le_of_ble_eq_true rfl) ?_
    refine BS_goto (tgt := 7) dX8_isFair_63 (by decide) ?_
    exact BS_back
  · refine BS_aload_n dX8_isFair_49 rfl ?_
    refine BS_gfr f_X8_47 dX8_isFair_50 ?_
    refine BS_iload_n dX8_isFair_53 rfl ?_
    refine BS_iaload dX8_isFair_54 ?_
    refine BS_goto (tgt := 59) dX8_isFair_55 (by decide) ?_
    refine BS_istore_n dX8_isFair_59 rfl (Nat.le_of_ble_eq_true rfl) ?_
    refine BS_iinc dX8_isFair_60 (by decide) (Nat.le_of_ble_eq_true rfl) ?_
    refine BS_goto (tgt := 7) dX8_isFair_63 (by decide) ?_
    exact BS_back
noncomputable def F_X8_isFair_l7 : KK (L_S ⊕ OO) :=
  op_ild 3 <| op_ald 0 <| op_gfr [25] 101 <| op_gfi [26] 143 <| op_cge (op_exit <| op_ild 1 <| op_ild 2 <| op_i2 (fun x y => x - y) <| op_push (.int 1) <| op_cgt (op_push (.int 0) <| op_iret .boolean) (op_push (.int 1) <| op_iret .boolean)) (op_ald 0 <| op_gfr [25] 131 <| op_ild 3 <| op_iald 1 <| op_ild 1 <| op_cle (op_ild 1 <| F_X8_isFair_b38) (op_ald 0 <| op_gfr [25] 131 <| op_ild 3 <| op_iald 1 <| F_X8_isFair_b38))
theorem bs_X8_isFair_l7 : B_S M_X8_isFair 7 (F_X8_isFair_l7) (z_L z_O) (k_L 7 k_O) := by
  unfold F_X8_isFair_l7
  refine BS_iload_n dX8_isFair_7 rfl ?_
  refine BS_aload_n dX8_isFair_8 rfl ?_
  refine BS_gfr f_X8_373 dX8_isFair_9 ?_
  refine BS_gfi f_X8_213 dX8_isFair_12 ?_
  refine BS_icmp_ge (tgt := 66) dX8_isFair_15 (by decide) ?_ ?_
  · refine BS_exit ?_
    refine BS_iload_n dX8_isFair_66 rfl ?_
    refine BS_iload_n dX8_isFair_67 rfl ?_
    refine BS_isub dX8_isFair_68 ?_
    refine BS_iconst dX8_isFair_69 (by decide) ?_
    refine BS_icmp_gt (tgt := 77) dX8_isFair_70 (by decide) ?_ ?_
    · refine BS_iconst dX8_isFair_77 (by decide) ?_
      exact BS_ireturn dX8_isFair_78 rfl
    · refine BS_iconst dX8_isFair_73 (by decide) ?_
      refine BS_goto (tgt := 78) dX8_isFair_74 (by decide) ?_
      exact BS_ireturn dX8_isFair_78 rfl
  · refine BS_aload_n dX8_isFair_18 rfl ?_
    refine BS_gfr f_X8_47 dX8_isFair_19 ?_
    refine BS_iload_n dX8_isFair_22 rfl ?_
    refine BS_iaload dX8_isFair_23 ?_
    refine BS_iload_n dX8_isFair_24 rfl ?_
    refine BS_icmp_le (tgt := 37) dX8_isFair_25 (by decide) ?_ ?_
    · refine BS_iload_n dX8_isFair_37 rfl ?_
      exact bs_X8_isFair_b38
    · refine BS_aload_n dX8_isFair_28 rfl ?_
      refine BS_gfr f_X8_47 dX8_isFair_29 ?_
      refine BS_iload_n dX8_isFair_32 rfl ?_
      refine BS_iaload dX8_isFair_33 ?_
      refine BS_goto (tgt := 38) dX8_isFair_34 (by decide) ?_
      exact bs_X8_isFair_b38
noncomputable def F_X8_isFair_b7 : KK OO := op_loop (F_X8_isFair_l7)
theorem bs_X8_isFair_b7 : B_S M_X8_isFair 7 (F_X8_isFair_b7) z_O k_O := BS_loop (bs_X8_isFair_l7)
noncomputable def F_X8_isFair_b0 : KK OO :=
  op_push (.int 0) <| op_ist 1 <| op_push (.int 9) <| op_ist 2 <| op_push (.int 0) <| op_ist 3 <| F_X8_isFair_b7
theorem bs_X8_isFair_b0 : B_S M_X8_isFair 0 (F_X8_isFair_b0) z_O k_O := by
  unfold F_X8_isFair_b0
  refine BS_iconst dX8_isFair_0 (by decide) ?_
  refine BS_istore_n dX8_isFair_1 rfl (Nat.le_of_ble_eq_true rfl) ?_
  refine BS_bipush dX8_isFair_2 (by decide) ?_
  refine BS_istore_n dX8_isFair_4 rfl (Nat.le_of_ble_eq_true rfl) ?_
  refine BS_iconst dX8_isFair_5 (by decide) ?_
  refine BS_istore_n dX8_isFair_6 rfl (Nat.le_of_ble_eq_true rfl) ?_
  exact bs_X8_isFair_b7
noncomputable def F_X8_isFair : FF := mk_F 4 F_X8_isFair_b0
theorem con_X8_isFair : Con_ yX8_isFair (ws_ yX8_isFair cX8_isFair 4 (some .boolean)) 0 0 F_X8_isFair := Con_of (by decide +kernel) bs_X8_isFair_b0
/-- LongerHalfModel.isIn(II)Z -/
abbrev M_X8_isIn : MM := (yX8_isIn, cX8_isIn, (some .boolean), 1, 23, 3, [])
theorem pd_X8_isIn : (yX8_isIn.cls ≠ "java/lang/invoke/MethodHandle" ∧ yX8_isIn.cls ≠ "java/lang/invoke/VarHandle") ∧ (parseMethodDescriptor yX8_isIn.desc).map (fun d => d.parameters.length) = some 2 := ⟨⟨by decide +kernel, by decide +kernel⟩, by decide +kernel⟩
noncomputable def F_X8_isIn_b18 : KK OO :=
  op_push (.int 1) <| op_iret .boolean
theorem bs_X8_isIn_b18 : B_S M_X8_isIn 18 (F_X8_isIn_b18) z_O k_O := by
  unfold F_X8_isIn_b18
  refine BS_iconst dX8_isIn_18 (by decide) ?_
  refine BS_goto (tgt := 23) dX8_isIn_19 (by decide) ?_
  exact BS_ireturn dX8_isIn_23 rfl
noncomputable def F_X8_isIn_b0 : KK OO :=
  op_ald 0 <| op_ild 1 <| op_call 2 (f_kd 25 F_X8_lesser) kx_no <| op_ild 2 <| op_ceq (F_X8_isIn_b18) (op_ald 0 <| op_ild 1 <| op_call 2 (f_kd 25 F_X8_greater) kx_no <| op_ild 2 <| op_cne (op_push (.int 0) <| op_iret .boolean) (F_X8_isIn_b18))
theorem bs_X8_isIn_b0 : B_S M_X8_isIn 0 (F_X8_isIn_b0) z_O k_O := by
  unfold F_X8_isIn_b0
  refine BS_aload_n dX8_isIn_0 rfl ?_
  refine BS_iload_n dX8_isIn_1 rfl ?_
  refine BS_call (run_V dX8_isIn_2 con_X8_lesser (ci := 15) rfl rfl q2302 q2304 qs120 q146 q2305 pd_X8_lesser ⟨Nat.le_of_ble_eq_true rfl, Nat.le_of_ble_eq_true rfl⟩) BV_no ?_
  refine BS_iload_n dX8_isIn_5 rfl ?_
  refine BS_icmp_eq (tgt := 18) dX8_isIn_6 (by decide) ?_ ?_
  · exact bs_X8_isIn_b18
  · refine BS_aload_n dX8_isIn_9 rfl ?_
    refine BS_iload_n dX8_isIn_10 rfl ?_
    refine BS_call (run_V dX8_isIn_11 con_X8_greater (ci := 15) rfl rfl q2306 q2308 qs121 q146 q2309 pd_X8_greater ⟨Nat.le_of_ble_eq_true rfl, Nat.le_of_ble_eq_true rfl⟩) BV_no ?_
    refine BS_iload_n dX8_isIn_14 rfl ?_
    refine BS_icmp_ne (tgt := 22) dX8_isIn_15 (by decide) ?_ ?_
    · refine BS_iconst dX8_isIn_22 (by decide) ?_
      exact BS_ireturn dX8_isIn_23 rfl
    · exact bs_X8_isIn_b18
noncomputable def F_X8_isIn : FF := mk_F 3 F_X8_isIn_b0
theorem con_X8_isIn : Con_ yX8_isIn (ws_ yX8_isIn cX8_isIn 3 (some .boolean)) 1 23 F_X8_isIn := Con_of (by decide +kernel) bs_X8_isIn_b0
/-- LongerHalfModel.isLow(I)Z -/
abbrev M_X8_isLow : MM := (yX8_isLow, cX8_isLow, (some .boolean), 0, 0, 4, [])
theorem pd_X8_isLow : (yX8_isLow.cls ≠ "java/lang/invoke/MethodHandle" ∧ yX8_isLow.cls ≠ "java/lang/invoke/VarHandle") ∧ (parseMethodDescriptor yX8_isLow.desc).map (fun d => d.parameters.length) = some 1 := ⟨⟨by decide +kernel, by decide +kernel⟩, by decide +kernel⟩
noncomputable def F_X8_isLow_l24 : KK (L_S ⊕ OO) :=
  op_ild 3 <| op_ald 0 <| op_gfr [25] 101 <| op_gfi [26] 143 <| op_cge (op_exit <| op_push (.int 1) <| op_iret .boolean) (op_ald 0 <| op_gfr [25] 131 <| op_ild 3 <| op_iald 1 <| op_ild 2 <| op_cle (op_iinc 3 1 <| op_back) (op_exit <| op_push (.int 0) <| op_iret .boolean))
theorem bs_X8_isLow_l24 : B_S M_X8_isLow 24 (F_X8_isLow_l24) (z_L z_O) (k_L 24 k_O) := by
  unfold F_X8_isLow_l24
  refine BS_iload_n dX8_isLow_24 rfl ?_
  refine BS_aload_n dX8_isLow_25 rfl ?_
  refine BS_gfr f_X8_373 dX8_isLow_26 ?_
  refine BS_gfi f_X8_213 dX8_isLow_29 ?_
  refine BS_icmp_ge (tgt := 53) dX8_isLow_32 (by decide) ?_ ?_
  · refine BS_exit ?_
    refine BS_iconst dX8_isLow_53 (by decide) ?_
    exact BS_ireturn dX8_isLow_54 rfl
  · refine BS_aload_n dX8_isLow_35 rfl ?_
    refine BS_gfr f_X8_47 dX8_isLow_36 ?_
    refine BS_iload_n dX8_isLow_39 rfl ?_
    refine BS_iaload dX8_isLow_40 ?_
    refine BS_iload_n dX8_isLow_41 rfl ?_
    refine BS_icmp_le (tgt := 47) dX8_isLow_42 (by decide) ?_ ?_
    · refine BS_iinc dX8_isLow_47 (by decide) (Nat.le_of_ble_eq_true rfl) ?_
      refine BS_goto (tgt := 24) dX8_isLow_50 (by decide) ?_
      exact BS_back
    · refine BS_exit ?_
      refine BS_iconst dX8_isLow_45 (by decide) ?_
      exact BS_ireturn dX8_isLow_46 rfl
noncomputable def F_X8_isLow_b24 : KK OO := op_loop (F_X8_isLow_l24)
theorem bs_X8_isLow_b24 : B_S M_X8_isLow 24 (F_X8_isLow_b24) z_O k_O := BS_loop (bs_X8_isLow_l24)
noncomputable def F_X8_isLow_b0 : KK OO :=
  op_push (.int 2) <| op_ild 1 <| op_i2 (fun x y => x * y) <| op_ald 0 <| op_gfr [25] 101 <| op_gfi [26] 143 <| op_i2 (fun x y => x + y) <| op_push (.int 1) <| op_i2 (fun x y => x - y) <| op_ald 0 <| op_gfr [25] 101 <| op_gfi [26] 143 <| op_i2d (fun x y => x / y) <| op_ist 2 <| op_push (.int 0) <| op_ist 3 <| F_X8_isLow_b24
theorem bs_X8_isLow_b0 : B_S M_X8_isLow 0 (F_X8_isLow_b0) z_O k_O := by
  unfold F_X8_isLow_b0
  refine BS_iconst dX8_isLow_0 (by decide) ?_
  refine BS_iload_n dX8_isLow_1 rfl ?_
  refine BS_imul dX8_isLow_2 ?_
  refine BS_aload_n dX8_isLow_3 rfl ?_
  refine BS_gfr f_X8_373 dX8_isLow_4 ?_
  refine BS_gfi f_X8_213 dX8_isLow_7 ?_
  refine BS_iadd dX8_isLow_10 ?_
  refine BS_iconst dX8_isLow_11 (by decide) ?_
  refine BS_isub dX8_isLow_12 ?_
  refine BS_aload_n dX8_isLow_13 rfl ?_
  refine BS_gfr f_X8_373 dX8_isLow_14 ?_
  refine BS_gfi f_X8_213 dX8_isLow_17 ?_
  refine BS_idiv dX8_isLow_20 ?_
  refine BS_istore_n dX8_isLow_21 rfl (Nat.le_of_ble_eq_true rfl) ?_
  refine BS_iconst dX8_isLow_22 (by decide) ?_
  refine BS_istore_n dX8_isLow_23 rfl (Nat.le_of_ble_eq_true rfl) ?_
  exact bs_X8_isLow_b24
noncomputable def F_X8_isLow : FF := mk_F 4 F_X8_isLow_b0
theorem con_X8_isLow : Con_ yX8_isLow (ws_ yX8_isLow cX8_isLow 4 (some .boolean)) 0 0 F_X8_isLow := Con_of (by decide +kernel) bs_X8_isLow_b0
/-- LongerHalfModel.laysTurns(I)Z -/
abbrev M_X8_laysTurns : MM := (yX8_laysTurns, cX8_laysTurns, (some .boolean), 2, 45, 4, [])
theorem pd_X8_laysTurns : (yX8_laysTurns.cls ≠ "java/lang/invoke/MethodHandle" ∧ yX8_laysTurns.cls ≠ "java/lang/invoke/VarHandle") ∧ (parseMethodDescriptor yX8_laysTurns.desc).map (fun d => d.parameters.length) = some 1 := ⟨⟨by decide +kernel, by decide +kernel⟩, by decide +kernel⟩
noncomputable def F_X8_laysTurns_b196 : KK (L_S ⊕ OO) :=
  op_ald 0 <| op_gfr [25] 130 <| op_ild 3 <| op_iald 1 <| op_ild 2 <| op_clt (op_ald 0 <| op_ald 0 <| op_gfr [25] 130 <| op_ild 3 <| op_iald 1 <| op_push (.int 1) <| op_call 3 (f_kd 25 F_X8_counts) kx_no <| op_ald 0 <| op_ild 1 <| op_call 2 (f_kd 25 F_X8_isLow) kx_no <| op_ieq (op_back) (op_iinc 3 1 <| op_back)) (op_ald 0 <| op_gfr [25] 130 <| op_ild 3 <| op_push (.int (-1)) <| op_iast 1 .int <| op_iinc 3 (-1) <| op_back)
theorem bs_X8_laysTurns_b196 : B_S M_X8_laysTurns 196 (F_X8_laysTurns_b196) (z_L z_O) (k_L 64 k_O) := by
  unfold F_X8_laysTurns_b196
  refine BS_aload_n dX8_laysTurns_196 rfl ?_
  refine BS_gfr f_X8_44 dX8_laysTurns_197 ?_
  refine BS_iload_n dX8_laysTurns_200 rfl ?_
  refine BS_iaload dX8_laysTurns_201 ?_
  refine BS_iload_n dX8_laysTurns_202 rfl ?_
  refine BS_icmp_lt (tgt := 219) dX8_laysTurns_203 (by decide) ?_ ?_
  · refine BS_aload_n dX8_laysTurns_219 rfl ?_
    refine BS_aload_n dX8_laysTurns_220 rfl ?_
    refine BS_gfr f_X8_44 dX8_laysTurns_221 ?_
    refine BS_iload_n dX8_laysTurns_224 rfl ?_
    refine BS_iaload dX8_laysTurns_225 ?_
    refine BS_iconst dX8_laysTurns_226 (by decide) ?_
    refine BS_call (run_V dX8_laysTurns_227 con_X8_counts (ci := 15) rfl rfl q2298 q2300 qs119 q146 q2301 pd_X8_counts ⟨Nat.le_of_ble_eq_true rfl, Nat.le_of_ble_eq_true rfl⟩) BV_no ?_
    refine BS_aload_n dX8_laysTurns_230 rfl ?_
    refine BS_iload_n dX8_laysTurns_231 rfl ?_
    refine BS_call (run_V dX8_laysTurns_232 con_X8_isLow (ci := 15) rfl rfl q2314 q2316 qs123 q146 q2317 pd_X8_isLow ⟨Nat.le_of_ble_eq_true rfl, Nat.le_of_ble_eq_true rfl⟩) BV_no ?_
    refine BS_if_eq (tgt := 64) dX8_laysTurns_235 (by decide) ?_ ?_
    · exact BS_back
    · refine BS_iinc dX8_laysTurns_238 (by decide) (Nat.le_of_ble_eq_true rfl) ?_
      refine BS_goto (tgt := 64) dX8_laysTurns_241 (by decide) ?_
      exact BS_back
  · refine BS_aload_n dX8_laysTurns_206 rfl ?_
    refine BS_gfr f_X8_44 dX8_laysTurns_207 ?_
    refine BS_iload_n dX8_laysTurns_210 rfl ?_
    refine BS_iconst dX8_laysTurns_211 (by decide) ?_
    refine BS_iastore dX8_laysTurns_212 ?_
    refine BS_iinc dX8_laysTurns_213 (by decide) (Nat.le_of_ble_eq_true rfl) ?_
    refine BS_goto (tgt := 64) dX8_laysTurns_216 (by decide) ?_
    exact BS_back
noncomputable def F_X8_laysTurns_b183 : KK (L_S ⊕ (L_S ⊕ OO)) :=
  op_ald 0 <| op_gfr [25] 130 <| op_ild 3 <| op_dup2 <| op_iald 1 <| op_push (.int 1) <| op_i2 (fun x y => x + y) <| op_iast 1 .int <| op_back
theorem bs_X8_laysTurns_b183 : B_S M_X8_laysTurns 183 (F_X8_laysTurns_b183) (z_L (z_L z_O)) (k_L 119 (k_L 64 k_O)) := by
  unfold F_X8_laysTurns_b183
  refine BS_aload_n dX8_laysTurns_183 rfl ?_
  refine BS_gfr f_X8_44 dX8_laysTurns_184 ?_
  refine BS_iload_n dX8_laysTurns_187 rfl ?_
  refine BS_dup2 dX8_laysTurns_188 ?_
  refine BS_iaload dX8_laysTurns_189 ?_
  refine BS_iconst dX8_laysTurns_190 (by decide) ?_
  refine BS_iadd dX8_laysTurns_191 ?_
  refine BS_iastore dX8_laysTurns_192 ?_
  refine BS_goto (tgt := 119) dX8_laysTurns_193 (by decide) ?_
  exact BS_back
noncomputable def F_X8_laysTurns_l119 : KK (L_S ⊕ (L_S ⊕ OO)) :=
  op_ald 0 <| op_gfr [25] 130 <| op_ild 3 <| op_iald 1 <| op_ild 2 <| op_cge (op_exit <| F_X8_laysTurns_b196) (op_ild 3 <| op_ile (op_exit <| F_X8_laysTurns_b196) (op_ald 0 <| op_ald 0 <| op_gfr [25] 130 <| op_ild 3 <| op_push (.int 1) <| op_i2 (fun x y => x - y) <| op_iald 1 <| op_ald 0 <| op_ald 0 <| op_gfr [25] 130 <| op_ild 3 <| op_iald 1 <| op_call 2 (f_kd 25 F_X8_lesser) kx_no <| op_call 3 (f_kd 25 F_X8_isIn) kx_no <| op_ine (F_X8_laysTurns_b183) (op_ald 0 <| op_ald 0 <| op_gfr [25] 130 <| op_ild 3 <| op_push (.int 1) <| op_i2 (fun x y => x - y) <| op_iald 1 <| op_ald 0 <| op_ald 0 <| op_gfr [25] 130 <| op_ild 3 <| op_iald 1 <| op_call 2 (f_kd 25 F_X8_greater) kx_no <| op_call 3 (f_kd 25 F_X8_isIn) kx_no <| op_ieq (op_exit <| F_X8_laysTurns_b196) (F_X8_laysTurns_b183))))
theorem bs_X8_laysTurns_l119 : B_S M_X8_laysTurns 119 (F_X8_laysTurns_l119) (z_L (z_L z_O)) (k_L 119 (k_L 64 k_O)) := by
  unfold F_X8_laysTurns_l119
  refine BS_aload_n dX8_laysTurns_119 rfl ?_
  refine BS_gfr f_X8_44 dX8_laysTurns_120 ?_
  refine BS_iload_n dX8_laysTurns_123 rfl ?_
  refine BS_iaload dX8_laysTurns_124 ?_
  refine BS_iload_n dX8_laysTurns_125 rfl ?_
  refine BS_icmp_ge (tgt := 196) dX8_laysTurns_126 (by decide) ?_ ?_
  · refine BS_exit ?_
    exact bs_X8_laysTurns_b196
  · refine BS_iload_n dX8_laysTurns_129 rfl ?_
    refine BS_if_le (tgt := 196) dX8_laysTurns_130 (by decide) ?_ ?_
    · refine BS_exit ?_
      exact bs_X8_laysTurns_b196
    · refine BS_aload_n dX8_laysTurns_133 rfl ?_
      refine BS_aload_n dX8_laysTurns_134 rfl ?_
      refine BS_gfr f_X8_44 dX8_laysTurns_135 ?_
      refine BS_iload_n dX8_laysTurns_138 rfl ?_
      refine BS_iconst dX8_laysTurns_139 (by decide) ?_
      refine BS_isub dX8_laysTurns_140 ?_
      refine BS_iaload dX8_laysTurns_141 ?_
      refine BS_aload_n dX8_laysTurns_142 rfl ?_
      refine BS_aload_n dX8_laysTurns_143 rfl ?_
      refine BS_gfr f_X8_44 dX8_laysTurns_144 ?_
      refine BS_iload_n dX8_laysTurns_147 rfl ?_
      refine BS_iaload dX8_laysTurns_148 ?_
      refine BS_call (run_V dX8_laysTurns_149 con_X8_lesser (ci := 15) rfl rfl q2302 q2304 qs120 q146 q2305 pd_X8_lesser ⟨Nat.le_of_ble_eq_true rfl, Nat.le_of_ble_eq_true rfl⟩) BV_no ?_
      refine BS_call (run_V dX8_laysTurns_152 con_X8_isIn (ci := 15) rfl rfl q2310 q2312 qs122 q146 q2313 pd_X8_isIn ⟨Nat.le_of_ble_eq_true rfl, Nat.le_of_ble_eq_true rfl⟩) BV_no ?_
      refine BS_if_ne (tgt := 183) dX8_laysTurns_155 (by decide) ?_ ?_
      · exact bs_X8_laysTurns_b183
      · refine BS_aload_n dX8_laysTurns_158 rfl ?_
        refine BS_aload_n dX8_laysTurns_159 rfl ?_
        refine BS_gfr f_X8_44 dX8_laysTurns_160 ?_
        refine BS_iload_n dX8_laysTurns_163 rfl ?_
        refine BS_iconst dX8_laysTurns_164 (by decide) ?_
        refine BS_isub dX8_laysTurns_165 ?_
        refine BS_iaload dX8_laysTurns_166 ?_
        refine BS_aload_n dX8_laysTurns_167 rfl ?_
        refine BS_aload_n dX8_laysTurns_168 rfl ?_
        refine BS_gfr f_X8_44 dX8_laysTurns_169 ?_
        refine BS_iload_n dX8_laysTurns_172 rfl ?_
        refine BS_iaload dX8_laysTurns_173 ?_
        refine BS_call (run_V dX8_laysTurns_174 con_X8_greater (ci := 15) rfl rfl q2306 q2308 qs121 q146 q2309 pd_X8_greater ⟨Nat.le_of_ble_eq_true rfl, Nat.le_of_ble_eq_true rfl⟩) BV_no ?_
        refine BS_call (run_V dX8_laysTurns_177 con_X8_isIn (ci := 15) rfl rfl q2310 q2312 qs122 q146 q2313 pd_X8_isIn ⟨Nat.le_of_ble_eq_true rfl, Nat.le_of_ble_eq_true rfl⟩) BV_no ?_
        refine BS_if_eq (tgt := 196) dX8_laysTurns_180 (by decide) ?_ ?_
        · refine BS_exit ?_
          exact bs_X8_laysTurns_b196
        · exact bs_X8_laysTurns_b183
noncomputable def F_X8_laysTurns_b119 : KK (L_S ⊕ OO) := op_loop (F_X8_laysTurns_l119)
theorem bs_X8_laysTurns_b119 : B_S M_X8_laysTurns 119 (F_X8_laysTurns_b119) (z_L z_O) (k_L 64 k_O) := BS_loop (bs_X8_laysTurns_l119)
noncomputable def F_X8_laysTurns_b109 : KK (L_S ⊕ OO) :=
  op_ald 0 <| op_gfr [25] 130 <| op_ild 3 <| op_dup2 <| op_iald 1 <| op_push (.int 1) <| op_i2 (fun x y => x + y) <| op_iast 1 .int <| F_X8_laysTurns_b119
theorem bs_X8_laysTurns_b109 : B_S M_X8_laysTurns 109 (F_X8_laysTurns_b109) (z_L z_O) (k_L 64 k_O) := by
  unfold F_X8_laysTurns_b109
  refine BS_aload_n dX8_laysTurns_109 rfl ?_
  refine BS_gfr f_X8_44 dX8_laysTurns_110 ?_
  refine BS_iload_n dX8_laysTurns_113 rfl ?_
  refine BS_dup2 dX8_laysTurns_114 ?_
  refine BS_iaload dX8_laysTurns_115 ?_
  refine BS_iconst dX8_laysTurns_116 (by decide) ?_
  refine BS_iadd dX8_laysTurns_117 ?_
  refine BS_iastore dX8_laysTurns_118 ?_
  exact bs_X8_laysTurns_b119
noncomputable def F_X8_laysTurns_l64 : KK (L_S ⊕ OO) :=
  op_ild 3 <| op_ilt (op_exit <| op_push (.int 0) <| op_iret .boolean) (op_ild 3 <| op_ild 1 <| op_cne (op_ald 0 <| op_gfr [25] 130 <| op_ild 3 <| op_iald 1 <| op_push (.int (-1)) <| op_ceq (F_X8_laysTurns_b109) (op_ald 0 <| op_ald 0 <| op_gfr [25] 130 <| op_ild 3 <| op_iald 1 <| op_push (.int (-1)) <| op_call 3 (f_kd 25 F_X8_counts) kx_no <| F_X8_laysTurns_b109)) (op_ald 0 <| op_call 1 (f_kd 25 F_X8_isFair) kx_no <| op_ieq (op_iinc 3 (-1) <| op_back) (op_exit <| op_push (.int 1) <| op_iret .boolean)))
theorem bs_X8_laysTurns_l64 : B_S M_X8_laysTurns 64 (F_X8_laysTurns_l64) (z_L z_O) (k_L 64 k_O) := by
  unfold F_X8_laysTurns_l64
  refine BS_iload_n dX8_laysTurns_64 rfl ?_
  refine BS_if_lt (tgt := 244) dX8_laysTurns_65 (by decide) ?_ ?_
  · refine BS_exit ?_
    refine BS_iconst dX8_laysTurns_244 (by decide) ?_
    exact BS_ireturn dX8_laysTurns_245 rfl
  · refine BS_iload_n dX8_laysTurns_68 rfl ?_
    refine BS_iload_n dX8_laysTurns_69 rfl ?_
    refine BS_icmp_ne (tgt := 88) dX8_laysTurns_70 (by decide) ?_ ?_
    · refine BS_aload_n dX8_laysTurns_88 rfl ?_
      refine BS_gfr f_X8_44 dX8_laysTurns_89 ?_
      refine BS_iload_n dX8_laysTurns_92 rfl ?_
      refine BS_iaload dX8_laysTurns_93 ?_
      refine BS_iconst dX8_laysTurns_94 (by decide) ?_
      refine BS_icmp_eq (tgt := 109) dX8_laysTurns_95 (by decide) ?_ ?_
      · exact bs_X8_laysTurns_b109
      · refine BS_aload_n dX8_laysTurns_98 rfl ?_
        refine BS_aload_n dX8_laysTurns_99 rfl ?_
        refine BS_gfr f_X8_44 dX8_laysTurns_100 ?_
        refine BS_iload_n dX8_laysTurns_103 rfl ?_
        refine BS_iaload dX8_laysTurns_104 ?_
        refine BS_iconst dX8_laysTurns_105 (by decide) ?_
        refine BS_call (run_V dX8_laysTurns_106 con_X8_counts (ci := 15) rfl rfl q2298 q2300 qs119 q146 q2301 pd_X8_counts ⟨Nat.le_of_ble_eq_true rfl, Nat.le_of_ble_eq_true rfl⟩) BV_no ?_
        exact bs_X8_laysTurns_b109
    · refine BS_aload_n dX8_laysTurns_73 rfl ?_
      refine BS_call (run_V dX8_laysTurns_74 con_X8_isFair (ci := 15) rfl rfl q2294 q2296 qs118 q146 q2297 pd_X8_isFair ⟨Nat.le_of_ble_eq_true rfl, Nat.le_of_ble_eq_true rfl⟩) BV_no ?_
      refine BS_if_eq (tgt := 82) dX8_laysTurns_77 (by decide) ?_ ?_
      · refine BS_iinc dX8_laysTurns_82 (by decide) (Nat.le_of_ble_eq_true rfl) ?_
        refine BS_goto (tgt := 64) dX8_laysTurns_85 (by decide) ?_
        exact BS_back
      · refine BS_exit ?_
        refine BS_iconst dX8_laysTurns_80 (by decide) ?_
        exact BS_ireturn dX8_laysTurns_81 rfl
noncomputable def F_X8_laysTurns_b64 : KK OO := op_loop (F_X8_laysTurns_l64)
theorem bs_X8_laysTurns_b64 : B_S M_X8_laysTurns 64 (F_X8_laysTurns_b64) z_O k_O := BS_loop (bs_X8_laysTurns_l64)
noncomputable def F_X8_laysTurns_l43 : KK (L_S ⊕ OO) :=
  op_ild 3 <| op_push (.int 9) <| op_cge (op_exit <| op_push (.int 0) <| op_ist 3 <| F_X8_laysTurns_b64) (op_ald 0 <| op_gfr [25] 130 <| op_ild 3 <| op_push (.int (-1)) <| op_iast 1 .int <| op_iinc 3 1 <| op_back)
theorem bs_X8_laysTurns_l43 : B_S M_X8_laysTurns 43 (F_X8_laysTurns_l43) (z_L z_O) (k_L 43 k_O) := by
  unfold F_X8_laysTurns_l43
  refine BS_iload_n dX8_laysTurns_43 rfl ?_
  refine BS_bipush dX8_laysTurns_44 (by decide) ?_
  refine BS_icmp_ge (tgt := 62) dX8_laysTurns_46 (by decide) ?_ ?_
  · refine BS_exit ?_
    refine BS_iconst dX8_laysTurns_62 (by decide) ?_
    refine BS_istore_n dX8_laysTurns_63 rfl (Nat.le_of_ble_eq_true rfl) ?_
    exact bs_X8_laysTurns_b64
  · refine BS_aload_n dX8_laysTurns_49 rfl ?_
    refine BS_gfr f_X8_44 dX8_laysTurns_50 ?_
    refine BS_iload_n dX8_laysTurns_53 rfl ?_
    refine BS_iconst dX8_laysTurns_54 (by decide) ?_
    refine BS_iastore dX8_laysTurns_55 ?_
    refine BS_iinc dX8_laysTurns_56 (by decide) (Nat.le_of_ble_eq_true rfl) ?_
    refine BS_goto (tgt := 43) dX8_laysTurns_59 (by decide) ?_
    exact BS_back
noncomputable def F_X8_laysTurns_b43 : KK OO := op_loop (F_X8_laysTurns_l43)
theorem bs_X8_laysTurns_b43 : B_S M_X8_laysTurns 43 (F_X8_laysTurns_b43) z_O k_O := BS_loop (bs_X8_laysTurns_l43)
noncomputable def F_X8_laysTurns_l22 : KK (L_S ⊕ OO) :=
  op_ild 3 <| op_push (.int 6) <| op_cge (op_exit <| op_push (.int 0) <| op_ist 3 <| F_X8_laysTurns_b43) (op_ald 0 <| op_gfr [25] 131 <| op_ild 3 <| op_push (.int 0) <| op_iast 1 .int <| op_iinc 3 1 <| op_back)
theorem bs_X8_laysTurns_l22 : B_S M_X8_laysTurns 22 (F_X8_laysTurns_l22) (z_L z_O) (k_L 22 k_O) := by
  unfold F_X8_laysTurns_l22
  refine BS_iload_n dX8_laysTurns_22 rfl ?_
  refine BS_bipush dX8_laysTurns_23 (by decide) ?_
  refine BS_icmp_ge (tgt := 41) dX8_laysTurns_25 (by decide) ?_ ?_
  · refine BS_exit ?_
    refine BS_iconst dX8_laysTurns_41 (by decide) ?_
    refine BS_istore_n dX8_laysTurns_42 rfl (Nat.le_of_ble_eq_true rfl) ?_
    exact bs_X8_laysTurns_b43
  · refine BS_aload_n dX8_laysTurns_28 rfl ?_
    refine BS_gfr f_X8_47 dX8_laysTurns_29 ?_
    refine BS_iload_n dX8_laysTurns_32 rfl ?_
    refine BS_iconst dX8_laysTurns_33 (by decide) ?_
    refine BS_iastore dX8_laysTurns_34 ?_
    refine BS_iinc dX8_laysTurns_35 (by decide) (Nat.le_of_ble_eq_true rfl) ?_
    refine BS_goto (tgt := 22) dX8_laysTurns_38 (by decide) ?_
    exact BS_back
noncomputable def F_X8_laysTurns_b22 : KK OO := op_loop (F_X8_laysTurns_l22)
theorem bs_X8_laysTurns_b22 : B_S M_X8_laysTurns 22 (F_X8_laysTurns_b22) z_O k_O := BS_loop (bs_X8_laysTurns_l22)
noncomputable def F_X8_laysTurns_b0 : KK OO :=
  op_ald 0 <| op_gfr [25] 101 <| op_gfi [26] 143 <| op_ald 0 <| op_gfr [25] 101 <| op_gfi [26] 143 <| op_push (.int 1) <| op_i2 (fun x y => x - y) <| op_i2 (fun x y => x * y) <| op_push (.int 2) <| op_i2d (fun x y => x / y) <| op_ist 2 <| op_push (.int 0) <| op_ist 3 <| F_X8_laysTurns_b22
theorem bs_X8_laysTurns_b0 : B_S M_X8_laysTurns 0 (F_X8_laysTurns_b0) z_O k_O := by
  unfold F_X8_laysTurns_b0
  refine BS_aload_n dX8_laysTurns_0 rfl ?_
  refine BS_gfr f_X8_373 dX8_laysTurns_1 ?_
  refine BS_gfi f_X8_213 dX8_laysTurns_4 ?_
  refine BS_aload_n dX8_laysTurns_7 rfl ?_
  refine BS_gfr f_X8_373 dX8_laysTurns_8 ?_
  refine BS_gfi f_X8_213 dX8_laysTurns_11 ?_
  refine BS_iconst dX8_laysTurns_14 (by decide) ?_
  refine BS_isub dX8_laysTurns_15 ?_
  refine BS_imul dX8_laysTurns_16 ?_
  refine BS_iconst dX8_laysTurns_17 (by decide) ?_
  refine BS_idiv dX8_laysTurns_18 ?_
  refine BS_istore_n dX8_laysTurns_19 rfl (Nat.le_of_ble_eq_true rfl) ?_
  refine BS_iconst dX8_laysTurns_20 (by decide) ?_
  refine BS_istore_n dX8_laysTurns_21 rfl (Nat.le_of_ble_eq_true rfl) ?_
  exact bs_X8_laysTurns_b22
noncomputable def F_X8_laysTurns : FF := mk_F 4 F_X8_laysTurns_b0
theorem con_X8_laysTurns : Con_ yX8_laysTurns (ws_ yX8_laysTurns cX8_laysTurns 4 (some .boolean)) 2 45 F_X8_laysTurns := Con_of (by decide +kernel) bs_X8_laysTurns_b0
/-- LongerHalfModel.refusesTurns(I)I -/
abbrev M_X8_refusesTurns : MM := (yX8_refusesTurns, cX8_refusesTurns, (some .int), 1, 22, 2, [])
theorem pd_X8_refusesTurns : (yX8_refusesTurns.cls ≠ "java/lang/invoke/MethodHandle" ∧ yX8_refusesTurns.cls ≠ "java/lang/invoke/VarHandle") ∧ (parseMethodDescriptor yX8_refusesTurns.desc).map (fun d => d.parameters.length) = some 1 := ⟨⟨by decide +kernel, by decide +kernel⟩, by decide +kernel⟩
noncomputable def F_X8_refusesTurns_b0 : KK OO :=
  op_ald 0 <| op_gfr [25] 101 <| op_ifnn (op_ild 1 <| op_push (.int 1) <| op_push (.int 9) <| op_call 3 F_X8_in kx_no <| op_ieq (op_push (.int 2) <| op_iret .int) (op_push (.int 0) <| op_iret .int)) (op_push (.int 1) <| op_iret .int)
theorem bs_X8_refusesTurns_b0 : B_S M_X8_refusesTurns 0 (F_X8_refusesTurns_b0) z_O k_O := by
  unfold F_X8_refusesTurns_b0
  refine BS_aload_n dX8_refusesTurns_0 rfl ?_
  refine BS_gfr f_X8_373 dX8_refusesTurns_1 ?_
  refine BS_ifnonnull (tgt := 11) dX8_refusesTurns_4 (by decide) ?_ ?_
  · refine BS_iload_n dX8_refusesTurns_11 rfl ?_
    refine BS_iconst dX8_refusesTurns_12 (by decide) ?_
    refine BS_bipush dX8_refusesTurns_13 (by decide) ?_
    refine BS_call (run_S dX8_refusesTurns_15 con_X8_in q1965 q1966 q146 q1967 pd_X8_in ⟨Nat.le_of_ble_eq_true rfl, Nat.le_of_ble_eq_true rfl⟩) BV_no ?_
    refine BS_if_eq (tgt := 25) dX8_refusesTurns_18 (by decide) ?_ ?_
    · refine BS_iconst dX8_refusesTurns_25 (by decide) ?_
      exact BS_ireturn dX8_refusesTurns_26 rfl
    · refine BS_iconst dX8_refusesTurns_21 (by decide) ?_
      refine BS_goto (tgt := 26) dX8_refusesTurns_22 (by decide) ?_
      exact BS_ireturn dX8_refusesTurns_26 rfl
  · refine BS_iconst dX8_refusesTurns_7 (by decide) ?_
    refine BS_goto (tgt := 26) dX8_refusesTurns_8 (by decide) ?_
    exact BS_ireturn dX8_refusesTurns_26 rfl
noncomputable def F_X8_refusesTurns : FF := mk_F 2 F_X8_refusesTurns_b0
theorem con_X8_refusesTurns : Con_ yX8_refusesTurns (ws_ yX8_refusesTurns cX8_refusesTurns 2 (some .int)) 1 22 F_X8_refusesTurns := Con_of (by decide +kernel) bs_X8_refusesTurns_b0
/-- LongerHalfModel.turnsOf(I)I -/
abbrev M_X8_turnsOf : MM := (yX8_turnsOf, cX8_turnsOf, (some .int), 3, 68, 3, [])
theorem pd_X8_turnsOf : (yX8_turnsOf.cls ≠ "java/lang/invoke/MethodHandle" ∧ yX8_turnsOf.cls ≠ "java/lang/invoke/VarHandle") ∧ (parseMethodDescriptor yX8_turnsOf.desc).map (fun d => d.parameters.length) = some 1 := ⟨⟨by decide +kernel, by decide +kernel⟩, by decide +kernel⟩
noncomputable def F_X8_turnsOf_b37 : KK OO :=
  op_call 2 (f_kd 25 F_X8_good) kx_no <| op_iret .int
theorem bs_X8_turnsOf_b37 : B_S M_X8_turnsOf 37 (F_X8_turnsOf_b37) z_O k_O := by
  unfold F_X8_turnsOf_b37
  refine BS_call (run_V dX8_turnsOf_37 con_X8_good (ci := 15) rfl rfl q2063 q2065 qs86 q146 q2066 pd_X8_good ⟨Nat.le_of_ble_eq_true rfl, Nat.le_of_ble_eq_true rfl⟩) BV_no ?_
  exact BS_ireturn dX8_turnsOf_40 rfl
noncomputable def F_X8_turnsOf_b0 : KK OO :=
  op_ald 0 <| op_push (.int 0) <| op_pfi .int [25] 98 <| op_ald 0 <| op_ild 1 <| op_call 2 (f_kd 25 F_X8_refusesTurns) kx_no <| op_ist 2 <| op_ild 2 <| op_ile (op_ald 0 <| op_ald 0 <| op_ild 1 <| op_call 2 (f_kd 25 F_X8_laysTurns) kx_no <| op_ieq (op_push (.int 0) <| F_X8_turnsOf_b37) (op_push (.int 1) <| F_X8_turnsOf_b37)) (op_ald 0 <| op_ild 2 <| op_call 2 (f_kd 25 F_X8_refused) kx_no <| op_iret .int)
theorem bs_X8_turnsOf_b0 : B_S M_X8_turnsOf 0 (F_X8_turnsOf_b0) z_O k_O := by
  unfold F_X8_turnsOf_b0
  refine BS_aload_n dX8_turnsOf_0 rfl ?_
  refine BS_iconst dX8_turnsOf_1 (by decide) ?_
  refine BS_pfi p_X8_53 (fun h => by cases h) dX8_turnsOf_2 ?_
  refine BS_aload_n dX8_turnsOf_5 rfl ?_
  refine BS_iload_n dX8_turnsOf_6 rfl ?_
  refine BS_call (run_V dX8_turnsOf_7 con_X8_refusesTurns (ci := 15) rfl rfl q2286 q2288 qs116 q146 q2289 pd_X8_refusesTurns ⟨Nat.le_of_ble_eq_true rfl, Nat.le_of_ble_eq_true rfl⟩) BV_no ?_
  refine BS_istore_n dX8_turnsOf_10 rfl (Nat.le_of_ble_eq_true rfl) ?_
  refine BS_iload_n dX8_turnsOf_11 rfl ?_
  refine BS_if_le (tgt := 23) dX8_turnsOf_12 (by decide) ?_ ?_
  · refine BS_aload_n dX8_turnsOf_23 rfl ?_
    refine BS_aload_n dX8_turnsOf_24 rfl ?_
    refine BS_iload_n dX8_turnsOf_25 rfl ?_
    refine BS_call (run_V dX8_turnsOf_26 con_X8_laysTurns (ci := 15) rfl rfl q2290 q2292 qs117 q146 q2293 pd_X8_laysTurns ⟨Nat.le_of_ble_eq_true rfl, Nat.le_of_ble_eq_true rfl⟩) BV_no ?_
    refine BS_if_eq (tgt := 36) dX8_turnsOf_29 (by decide) ?_ ?_
    · refine BS_iconst dX8_turnsOf_36 (by decide) ?_
      exact bs_X8_turnsOf_b37
    · refine BS_iconst dX8_turnsOf_32 (by decide) ?_
      refine BS_goto (tgt := 37) dX8_turnsOf_33 (by decide) ?_
      exact bs_X8_turnsOf_b37
  · refine BS_aload_n dX8_turnsOf_15 rfl ?_
    refine BS_iload_n dX8_turnsOf_16 rfl ?_
    refine BS_call (run_V dX8_turnsOf_17 con_X8_refused (ci := 15) rfl rfl q1749 q1751 qs58 q146 q1752 pd_X8_refused ⟨Nat.le_of_ble_eq_true rfl, Nat.le_of_ble_eq_true rfl⟩) BV_no ?_
    refine BS_goto (tgt := 40) dX8_turnsOf_20 (by decide) ?_
    exact BS_ireturn dX8_turnsOf_40 rfl
noncomputable def F_X8_turnsOf : FF := mk_F 3 F_X8_turnsOf_b0
theorem con_X8_turnsOf : Con_ yX8_turnsOf (ws_ yX8_turnsOf cX8_turnsOf 3 (some .int)) 3 68 F_X8_turnsOf := Con_of (by decide +kernel) bs_X8_turnsOf_b0
/-- LongerHalfModel.turnAt(II)I -/
abbrev M_X8_turnAt : MM := (yX8_turnAt, cX8_turnAt, (some .int), 3, 68, 4, [])
theorem pd_X8_turnAt : (yX8_turnAt.cls ≠ "java/lang/invoke/MethodHandle" ∧ yX8_turnAt.cls ≠ "java/lang/invoke/VarHandle") ∧ (parseMethodDescriptor yX8_turnAt.desc).map (fun d => d.parameters.length) = some 2 := ⟨⟨by decide +kernel, by decide +kernel⟩, by decide +kernel⟩
noncomputable def F_X8_turnAt_b30 : KK OO :=
  op_ald 0 <| op_push (.int 1) <| op_call 2 (f_kd 25 F_X8_refused) kx_no <| op_iret .int
theorem bs_X8_turnAt_b30 : B_S M_X8_turnAt 30 (F_X8_turnAt_b30) z_O k_O := by
  unfold F_X8_turnAt_b30
  refine BS_aload_n dX8_turnAt_30 rfl ?_
  refine BS_iconst dX8_turnAt_31 (by decide) ?_
  refine BS_call (run_V dX8_turnAt_32 con_X8_refused (ci := 15) rfl rfl q1749 q1751 qs58 q146 q1752 pd_X8_refused ⟨Nat.le_of_ble_eq_true rfl, Nat.le_of_ble_eq_true rfl⟩) BV_no ?_
  exact BS_ireturn dX8_turnAt_35 rfl
noncomputable def F_X8_turnAt_b0 : KK OO :=
  op_ald 0 <| op_push (.int 0) <| op_pfi .int [25] 98 <| op_ald 0 <| op_ild 1 <| op_call 2 (f_kd 25 F_X8_refusesTurns) kx_no <| op_ist 3 <| op_ild 3 <| op_ile (op_ild 2 <| op_ilt (F_X8_turnAt_b30) (op_ild 2 <| op_ild 1 <| op_clt (op_ald 0 <| op_ild 1 <| op_call 2 (f_kd 25 F_X8_laysTurns) kx_no <| op_ieq (op_ald 0 <| op_push (.int 6) <| op_call 2 (f_kd 25 F_X8_refused) kx_no <| op_iret .int) (op_ald 0 <| op_push (.int 10) <| op_ald 0 <| op_ald 0 <| op_gfr [25] 130 <| op_ild 2 <| op_iald 1 <| op_call 2 (f_kd 25 F_X8_lesser) kx_no <| op_i2 (fun x y => x * y) <| op_ald 0 <| op_ald 0 <| op_gfr [25] 130 <| op_ild 2 <| op_iald 1 <| op_call 2 (f_kd 25 F_X8_greater) kx_no <| op_i2 (fun x y => x + y) <| op_call 2 (f_kd 25 F_X8_good) kx_no <| op_iret .int)) (F_X8_turnAt_b30))) (op_ald 0 <| op_ild 3 <| op_call 2 (f_kd 25 F_X8_refused) kx_no <| op_iret .int)
theorem bs_X8_turnAt_b0 : B_S M_X8_turnAt 0 (F_X8_turnAt_b0) z_O k_O := by
  unfold F_X8_turnAt_b0
  refine BS_aload_n dX8_turnAt_0 rfl ?_
  refine BS_iconst dX8_turnAt_1 (by decide) ?_
  refine BS_pfi p_X8_53 (fun h => by cases h) dX8_turnAt_2 ?_
  refine BS_aload_n dX8_turnAt_5 rfl ?_
  refine BS_iload_n dX8_turnAt_6 rfl ?_
  refine BS_call (run_V dX8_turnAt_7 con_X8_refusesTurns (ci := 15) rfl rfl q2286 q2288 qs116 q146 q2289 pd_X8_refusesTurns ⟨Nat.le_of_ble_eq_true rfl, Nat.le_of_ble_eq_true rfl⟩) BV_no ?_
  refine BS_istore_n dX8_turnAt_10 rfl (Nat.le_of_ble_eq_true rfl) ?_
  refine BS_iload_n dX8_turnAt_11 rfl ?_
  refine BS_if_le (tgt := 21) dX8_turnAt_12 (by decide) ?_ ?_
  · refine BS_iload_n dX8_turnAt_21 rfl ?_
    refine BS_if_lt (tgt := 30) dX8_turnAt_22 (by decide) ?_ ?_
    · exact bs_X8_turnAt_b30
    · refine BS_iload_n dX8_turnAt_25 rfl ?_
      refine BS_iload_n dX8_turnAt_26 rfl ?_
      refine BS_icmp_lt (tgt := 36) dX8_turnAt_27 (by decide) ?_ ?_
      · refine BS_aload_n dX8_turnAt_36 rfl ?_
        refine BS_iload_n dX8_turnAt_37 rfl ?_
        refine BS_call (run_V dX8_turnAt_38 con_X8_laysTurns (ci := 15) rfl rfl q2290 q2292 qs117 q146 q2293 pd_X8_laysTurns ⟨Nat.le_of_ble_eq_true rfl, Nat.le_of_ble_eq_true rfl⟩) BV_no ?_
        refine BS_if_eq (tgt := 75) dX8_turnAt_41 (by decide) ?_ ?_
        · refine BS_aload_n dX8_turnAt_75 rfl ?_
          refine BS_bipush dX8_turnAt_76 (by decide) ?_
          refine BS_call (run_V dX8_turnAt_78 con_X8_refused (ci := 15) rfl rfl q1749 q1751 qs58 q146 q1752 pd_X8_refused ⟨Nat.le_of_ble_eq_true rfl, Nat.le_of_ble_eq_true rfl⟩) BV_no ?_
          exact BS_ireturn dX8_turnAt_81 rfl
        · refine BS_aload_n dX8_turnAt_44 rfl ?_
          refine BS_bipush dX8_turnAt_45 (by decide) ?_
          refine BS_aload_n dX8_turnAt_47 rfl ?_
          refine BS_aload_n dX8_turnAt_48 rfl ?_
          refine BS_gfr f_X8_44 dX8_turnAt_49 ?_
          refine BS_iload_n dX8_turnAt_52 rfl ?_
          refine BS_iaload dX8_turnAt_53 ?_
          refine BS_call (run_V dX8_turnAt_54 con_X8_lesser (ci := 15) rfl rfl q2302 q2304 qs120 q146 q2305 pd_X8_lesser ⟨Nat.le_of_ble_eq_true rfl, Nat.le_of_ble_eq_true rfl⟩) BV_no ?_
          refine BS_imul dX8_turnAt_57 ?_
          refine BS_aload_n dX8_turnAt_58 rfl ?_
          refine BS_aload_n dX8_turnAt_59 rfl ?_
          refine BS_gfr f_X8_44 dX8_turnAt_60 ?_
          refine BS_iload_n dX8_turnAt_63 rfl ?_
          refine BS_iaload dX8_turnAt_64 ?_
          refine BS_call (run_V dX8_turnAt_65 con_X8_greater (ci := 15) rfl rfl q2306 q2308 qs121 q146 q2309 pd_X8_greater ⟨Nat.le_of_ble_eq_true rfl, Nat.le_of_ble_eq_true rfl⟩) BV_no ?_
          refine BS_iadd dX8_turnAt_68 ?_
          refine BS_call (run_V dX8_turnAt_69 con_X8_good (ci := 15) rfl rfl q2063 q2065 qs86 q146 q2066 pd_X8_good ⟨Nat.le_of_ble_eq_true rfl, Nat.le_of_ble_eq_true rfl⟩) BV_no ?_
          refine BS_goto (tgt := 81) dX8_turnAt_72 (by decide) ?_
          exact BS_ireturn dX8_turnAt_81 rfl
      · exact bs_X8_turnAt_b30
  · refine BS_aload_n dX8_turnAt_15 rfl ?_
    refine BS_iload_n dX8_turnAt_16 rfl ?_
    refine BS_call (run_V dX8_turnAt_17 con_X8_refused (ci := 15) rfl rfl q1749 q1751 qs58 q146 q1752 pd_X8_refused ⟨Nat.le_of_ble_eq_true rfl, Nat.le_of_ble_eq_true rfl⟩) BV_no ?_
    exact BS_ireturn dX8_turnAt_20 rfl
noncomputable def F_X8_turnAt : FF := mk_F 4 F_X8_turnAt_b0
theorem con_X8_turnAt : Con_ yX8_turnAt (ws_ yX8_turnAt cX8_turnAt 4 (some .int)) 3 68 F_X8_turnAt := Con_of (by decide +kernel) bs_X8_turnAt_b0
/-- LongerHalfModel.rowsOf(II)J -/
abbrev M_X8_rowsOf : MM := (yX8_rowsOf, cX8_rowsOf, (some .long), 0, 0, 7, [])
theorem pd_X8_rowsOf : (yX8_rowsOf.cls ≠ "java/lang/invoke/MethodHandle" ∧ yX8_rowsOf.cls ≠ "java/lang/invoke/VarHandle") ∧ (parseMethodDescriptor yX8_rowsOf.desc).map (fun d => d.parameters.length) = some 2 := ⟨⟨by decide +kernel, by decide +kernel⟩, by decide +kernel⟩
noncomputable def F_X8_rowsOf_b25 : KK (L_S ⊕ OO) :=
  op_lld 4 <| op_ild 0 <| op_ild 6 <| op_i2 (fun x y => x - y) <| op_i2l <| op_l2 (fun x y => x * y) <| op_ild 6 <| op_push (.int 1) <| op_i2 (fun x y => x + y) <| op_i2l <| op_l2d (fun x y => x / y) <| op_lst 4 <| op_iinc 6 1 <| op_back
theorem bs_X8_rowsOf_b25 : B_S M_X8_rowsOf 25 (F_X8_rowsOf_b25) (z_L z_O) (k_L 8 k_O) := by
  unfold F_X8_rowsOf_b25
  refine BS_lload dX8_rowsOf_25 ?_
  refine BS_iload_n dX8_rowsOf_27 rfl ?_
  refine BS_iload dX8_rowsOf_28 ?_
  refine BS_isub dX8_rowsOf_30 ?_
  refine BS_i2l dX8_rowsOf_31 ?_
  refine BS_lmul dX8_rowsOf_32 ?_
  refine BS_iload dX8_rowsOf_33 ?_
  refine BS_iconst dX8_rowsOf_35 (by decide) ?_
  refine BS_iadd dX8_rowsOf_36 ?_
  refine BS_i2l dX8_rowsOf_37 ?_
  refine BS_ldiv dX8_rowsOf_38 ?_
  refine BS_lstore dX8_rowsOf_39 (Nat.le_of_ble_eq_true rfl) ?_
  refine BS_iinc dX8_rowsOf_41 (by decide) (Nat.le_of_ble_eq_true rfl) ?_
  refine BS_goto (tgt := 8) dX8_rowsOf_44 (by decide) ?_
  exact BS_back
noncomputable def F_X8_rowsOf_l8 : KK (L_S ⊕ OO) :=
  op_ild 6 <| op_ild 0 <| op_cgt (op_exit <| op_lld 2 <| op_lret) (op_ild 6 <| op_ild 1 <| op_clt (F_X8_rowsOf_b25) (op_lld 2 <| op_lld 4 <| op_l2 (fun x y => x + y) <| op_lst 2 <| F_X8_rowsOf_b25))
theorem bs_X8_rowsOf_l8 : B_S M_X8_rowsOf 8 (F_X8_rowsOf_l8) (z_L z_O) (k_L 8 k_O) := by
  unfold F_X8_rowsOf_l8
  refine BS_iload dX8_rowsOf_8 ?_
  refine BS_iload_n dX8_rowsOf_10 rfl ?_
  refine BS_icmp_gt (tgt := 47) dX8_rowsOf_11 (by decide) ?_ ?_
  · refine BS_exit ?_
    refine BS_lload_n dX8_rowsOf_47 rfl ?_
    exact BS_lreturn dX8_rowsOf_48 rfl
  · refine BS_iload dX8_rowsOf_14 ?_
    refine BS_iload_n dX8_rowsOf_16 rfl ?_
    refine BS_icmp_lt (tgt := 25) dX8_rowsOf_17 (by decide) ?_ ?_
    · exact bs_X8_rowsOf_b25
    · refine BS_lload_n dX8_rowsOf_20 rfl ?_
      refine BS_lload dX8_rowsOf_21 ?_
      refine BS_ladd dX8_rowsOf_23 ?_
      refine BS_lstore_n dX8_rowsOf_24 rfl (Nat.le_of_ble_eq_true rfl) ?_
      exact bs_X8_rowsOf_b25
noncomputable def F_X8_rowsOf_b8 : KK OO := op_loop (F_X8_rowsOf_l8)
theorem bs_X8_rowsOf_b8 : B_S M_X8_rowsOf 8 (F_X8_rowsOf_b8) z_O k_O := BS_loop (bs_X8_rowsOf_l8)
noncomputable def F_X8_rowsOf_b0 : KK OO :=
  op_push (.long 0) <| op_lst 2 <| op_push (.long 1) <| op_lst 4 <| op_push (.int 0) <| op_ist 6 <| F_X8_rowsOf_b8
theorem bs_X8_rowsOf_b0 : B_S M_X8_rowsOf 0 (F_X8_rowsOf_b0) z_O k_O := by
  unfold F_X8_rowsOf_b0
  refine BS_lconst dX8_rowsOf_0 (by decide) ?_
  refine BS_lstore_n dX8_rowsOf_1 rfl (Nat.le_of_ble_eq_true rfl) ?_
  refine BS_lconst dX8_rowsOf_2 (by decide) ?_
  refine BS_lstore dX8_rowsOf_3 (Nat.le_of_ble_eq_true rfl) ?_
  refine BS_iconst dX8_rowsOf_5 (by decide) ?_
  refine BS_istore dX8_rowsOf_6 (Nat.le_of_ble_eq_true rfl) ?_
  exact bs_X8_rowsOf_b8
noncomputable def F_X8_rowsOf : FF := mk_F 7 F_X8_rowsOf_b0
theorem con_X8_rowsOf : Con_ yX8_rowsOf (ws_ yX8_rowsOf cX8_rowsOf 7 (some .long)) 0 0 F_X8_rowsOf := Con_of (by decide +kernel) bs_X8_rowsOf_b0
/-- LongerHalfModel.hand(IZ)J -/
abbrev M_X8_hand : MM := (yX8_hand, cX8_hand, (some .long), 2, 54, 3, [])
theorem pd_X8_hand : (yX8_hand.cls ≠ "java/lang/invoke/MethodHandle" ∧ yX8_hand.cls ≠ "java/lang/invoke/VarHandle") ∧ (parseMethodDescriptor yX8_hand.desc).map (fun d => d.parameters.length) = some 2 := ⟨⟨by decide +kernel, by decide +kernel⟩, by decide +kernel⟩
noncomputable def F_X8_hand_b0 : KK OO :=
  op_ald 0 <| op_push (.int 0) <| op_pfi .int [25] 98 <| op_ald 0 <| op_ild 1 <| op_call 2 (f_kd 25 F_X8_isPerson) kx_no <| op_ine (op_ald 0 <| op_ald 0 <| op_ild 1 <| op_call 2 (f_kd 25 F_X8_pullsOf) kx_no <| op_ald 0 <| op_ild 1 <| op_call 2 (f_kd 25 F_X8_wonBy) kx_no <| op_call 2 F_X8_rowsOf kx_no <| op_push (.long 1) <| op_ald 0 <| op_ild 1 <| op_call 2 (f_kd 25 F_X8_pullsOf) kx_no <| op_li (fun x y => x <<< (y.toInt64 &&& 63)) <| op_ild 2 <| op_call 4 (f_kd 25 F_X8_fraction) kx_no <| op_lret) (op_ald 0 <| op_push (.int 1) <| op_call 2 (f_kd 25 F_X8_refused) kx_no <| op_i2l <| op_lret)
theorem bs_X8_hand_b0 : B_S M_X8_hand 0 (F_X8_hand_b0) z_O k_O := by
  unfold F_X8_hand_b0
  refine BS_aload_n dX8_hand_0 rfl ?_
  refine BS_iconst dX8_hand_1 (by decide) ?_
  refine BS_pfi p_X8_53 (fun h => by cases h) dX8_hand_2 ?_
  refine BS_aload_n dX8_hand_5 rfl ?_
  refine BS_iload_n dX8_hand_6 rfl ?_
  refine BS_call (run_V dX8_hand_7 con_X8_isPerson (ci := 15) rfl rfl q2103 q2105 qs89 q146 q2106 pd_X8_isPerson ⟨Nat.le_of_ble_eq_true rfl, Nat.le_of_ble_eq_true rfl⟩) BV_no ?_
  refine BS_if_ne (tgt := 20) dX8_hand_10 (by decide) ?_ ?_
  · refine BS_aload_n dX8_hand_20 rfl ?_
    refine BS_aload_n dX8_hand_21 rfl ?_
    refine BS_iload_n dX8_hand_22 rfl ?_
    refine BS_call (run_V dX8_hand_23 con_X8_pullsOf (ci := 15) rfl rfl q2107 q2109 qs90 q146 q2110 pd_X8_pullsOf ⟨Nat.le_of_ble_eq_true rfl, Nat.le_of_ble_eq_true rfl⟩) BV_no ?_
    refine BS_aload_n dX8_hand_26 rfl ?_
    refine BS_iload_n dX8_hand_27 rfl ?_
    refine BS_call (run_V dX8_hand_28 con_X8_wonBy (ci := 15) rfl rfl q2111 q2113 qs91 q146 q2114 pd_X8_wonBy ⟨Nat.le_of_ble_eq_true rfl, Nat.le_of_ble_eq_true rfl⟩) BV_no ?_
    refine BS_call (run_S dX8_hand_31 con_X8_rowsOf q2326 q2327 q146 q2328 pd_X8_rowsOf ⟨Nat.le_of_ble_eq_true rfl, Nat.le_of_ble_eq_true rfl⟩) BV_no ?_
    refine BS_lconst dX8_hand_34 (by decide) ?_
    refine BS_aload_n dX8_hand_35 rfl ?_
    refine BS_iload_n dX8_hand_36 rfl ?_
    refine BS_call (run_V dX8_hand_37 con_X8_pullsOf (ci := 15) rfl rfl q2107 q2109 qs90 q146 q2110 pd_X8_pullsOf ⟨Nat.le_of_ble_eq_true rfl, Nat.le_of_ble_eq_true rfl⟩) BV_no ?_
    refine BS_lshl dX8_hand_40 ?_
    refine BS_iload_n dX8_hand_41 rfl ?_
    refine BS_call (run_V dX8_hand_42 con_X8_fraction (ci := 15) rfl rfl q2189 q2191 qs104 q146 q2192 pd_X8_fraction ⟨Nat.le_of_ble_eq_true rfl, Nat.le_of_ble_eq_true rfl⟩) BV_no ?_
    exact BS_lreturn dX8_hand_45 rfl
  · refine BS_aload_n dX8_hand_13 rfl ?_
    refine BS_iconst dX8_hand_14 (by decide) ?_
    refine BS_call (run_V dX8_hand_15 con_X8_refused (ci := 15) rfl rfl q1749 q1751 qs58 q146 q1752 pd_X8_refused ⟨Nat.le_of_ble_eq_true rfl, Nat.le_of_ble_eq_true rfl⟩) BV_no ?_
    refine BS_i2l dX8_hand_18 ?_
    exact BS_lreturn dX8_hand_19 rfl
noncomputable def F_X8_hand : FF := mk_F 3 F_X8_hand_b0
theorem con_X8_hand : Con_ yX8_hand (ws_ yX8_hand cX8_hand 3 (some .long)) 2 54 F_X8_hand := Con_of (by decide +kernel) bs_X8_hand_b0
/-- LongerHalfModel.side(Z)J -/
abbrev M_X8_side : MM := (yX8_side, cX8_side, (some .long), 2, 54, 4, [])
theorem pd_X8_side : (yX8_side.cls ≠ "java/lang/invoke/MethodHandle" ∧ yX8_side.cls ≠ "java/lang/invoke/VarHandle") ∧ (parseMethodDescriptor yX8_side.desc).map (fun d => d.parameters.length) = some 1 := ⟨⟨by decide +kernel, by decide +kernel⟩, by decide +kernel⟩
noncomputable def F_X8_side_l23 : KK (L_S ⊕ OO) :=
  op_ild 3 <| op_ald 0 <| op_gfr [25] 101 <| op_gfi [26] 145 <| op_cge (op_exit <| op_ald 0 <| op_ald 0 <| op_gfr [25] 101 <| op_gfi [26] 145 <| op_ild 2 <| op_call 2 F_X8_rowsOf kx_no <| op_push (.long 1) <| op_ald 0 <| op_gfr [25] 101 <| op_gfi [26] 145 <| op_li (fun x y => x <<< (y.toInt64 &&& 63)) <| op_ild 1 <| op_call 4 (f_kd 25 F_X8_fraction) kx_no <| op_lret) (op_ild 2 <| op_ald 0 <| op_gfr [25] 101 <| op_gfr [26] 161 <| op_ild 3 <| op_iald 1 <| op_ine (op_push (.int 0) <| op_i2 (fun x y => x + y) <| op_ist 2 <| op_iinc 3 1 <| op_back) (op_push (.int 1) <| op_i2 (fun x y => x + y) <| op_ist 2 <| op_iinc 3 1 <| op_back))
theorem bs_X8_side_l23 : B_S M_X8_side 23 (F_X8_side_l23) (z_L z_O) (k_L 23 k_O) := by
  unfold F_X8_side_l23
  refine BS_iload_n dX8_side_23 rfl ?_
  refine BS_aload_n dX8_side_24 rfl ?_
  refine BS_gfr f_X8_373 dX8_side_25 ?_
  refine BS_gfi f_X8_334 dX8_side_28 ?_
  refine BS_icmp_ge (tgt := 60) dX8_side_31 (by decide) ?_ ?_
  · refine BS_exit ?_
    refine BS_aload_n dX8_side_60 rfl ?_
    refine BS_aload_n dX8_side_61 rfl ?_
    refine BS_gfr f_X8_373 dX8_side_62 ?_
    refine BS_gfi f_X8_334 dX8_side_65 ?_
    refine BS_iload_n dX8_side_68 rfl ?_
    refine BS_call (run_S dX8_side_69 con_X8_rowsOf q2326 q2327 q146 q2328 pd_X8_rowsOf ⟨Nat.le_of_ble_eq_true rfl, Nat.le_of_ble_eq_true rfl⟩) BV_no ?_
    refine BS_lconst dX8_side_72 (by decide) ?_
    refine BS_aload_n dX8_side_73 rfl ?_
    refine BS_gfr f_X8_373 dX8_side_74 ?_
    refine BS_gfi f_X8_334 dX8_side_77 ?_
    refine BS_lshl dX8_side_80 ?_
    refine BS_iload_n dX8_side_81 rfl ?_
    refine BS_call (run_V dX8_side_82 con_X8_fraction (ci := 15) rfl rfl q2189 q2191 qs104 q146 q2192 pd_X8_fraction ⟨Nat.le_of_ble_eq_true rfl, Nat.le_of_ble_eq_true rfl⟩) BV_no ?_
    exact BS_lreturn dX8_side_85 rfl
  · refine BS_iload_n dX8_side_34 rfl ?_
    refine BS_aload_n dX8_side_35 rfl ?_
    refine BS_gfr f_X8_373 dX8_side_36 ?_
    refine BS_gfr f_X8_346 dX8_side_39 ?_
    refine BS_iload_n dX8_side_42 rfl ?_
    refine BS_iaload dX8_side_43 ?_
    refine BS_if_ne (tgt := 51) dX8_side_44 (by decide) ?_ ?_
    · refine BS_iconst dX8_side_51 (by decide) ?_
      refine BS_iadd dX8_side_52 ?_
      refine BS_istore_n dX8_side_53 rfl (Nat.le_of_ble_eq_true rfl) ?_
      refine BS_iinc dX8_side_54 (by decide) (Nat.le_of_ble_eq_true rfl) ?_
      refine BS_goto (tgt := 23) dX8_side_57 (by decide) ?_
      exact BS_back
    · refine BS_iconst dX8_side_47 (by decide) ?_
      refine BS_goto (tgt := 52) dX8_side_48 (by decide) ?_
      refine BS_iadd dX8_side_52 ?_
      refine BS_istore_n dX8_side_53 rfl (Nat.le_of_ble_eq_true rfl) ?_
      refine BS_iinc dX8_side_54 (by decide) (Nat.le_of_ble_eq_true rfl) ?_
      refine BS_goto (tgt := 23) dX8_side_57 (by decide) ?_
      exact BS_back
noncomputable def F_X8_side_b23 : KK OO := op_loop (F_X8_side_l23)
theorem bs_X8_side_b23 : B_S M_X8_side 23 (F_X8_side_b23) z_O k_O := BS_loop (bs_X8_side_l23)
noncomputable def F_X8_side_b0 : KK OO :=
  op_ald 0 <| op_push (.int 0) <| op_pfi .int [25] 98 <| op_ald 0 <| op_gfr [25] 101 <| op_ifnn (op_push (.int 0) <| op_ist 2 <| op_push (.int 0) <| op_ist 3 <| F_X8_side_b23) (op_ald 0 <| op_push (.int 1) <| op_call 2 (f_kd 25 F_X8_refused) kx_no <| op_i2l <| op_lret)
theorem bs_X8_side_b0 : B_S M_X8_side 0 (F_X8_side_b0) z_O k_O := by
  unfold F_X8_side_b0
  refine BS_aload_n dX8_side_0 rfl ?_
  refine BS_iconst dX8_side_1 (by decide) ?_
  refine BS_pfi p_X8_53 (fun h => by cases h) dX8_side_2 ?_
  refine BS_aload_n dX8_side_5 rfl ?_
  refine BS_gfr f_X8_373 dX8_side_6 ?_
  refine BS_ifnonnull (tgt := 19) dX8_side_9 (by decide) ?_ ?_
  · refine BS_iconst dX8_side_19 (by decide) ?_
    refine BS_istore_n dX8_side_20 rfl (Nat.le_of_ble_eq_true rfl) ?_
    refine BS_iconst dX8_side_21 (by decide) ?_
    refine BS_istore_n dX8_side_22 rfl (Nat.le_of_ble_eq_true rfl) ?_
    exact bs_X8_side_b23
  · refine BS_aload_n dX8_side_12 rfl ?_
    refine BS_iconst dX8_side_13 (by decide) ?_
    refine BS_call (run_V dX8_side_14 con_X8_refused (ci := 15) rfl rfl q1749 q1751 qs58 q146 q1752 pd_X8_refused ⟨Nat.le_of_ble_eq_true rfl, Nat.le_of_ble_eq_true rfl⟩) BV_no ?_
    refine BS_i2l dX8_side_17 ?_
    exact BS_lreturn dX8_side_18 rfl
noncomputable def F_X8_side : FF := mk_F 4 F_X8_side_b0
theorem con_X8_side : Con_ yX8_side (ws_ yX8_side cX8_side 4 (some .long)) 2 54 F_X8_side := Con_of (by decide +kernel) bs_X8_side_b0
/-- LongerHalfModel.known()I -/
abbrev M_X8_known : MM := (yX8_known, cX8_known, (some .int), 2, 46, 3, [])
theorem pd_X8_known : (yX8_known.cls ≠ "java/lang/invoke/MethodHandle" ∧ yX8_known.cls ≠ "java/lang/invoke/VarHandle") ∧ (parseMethodDescriptor yX8_known.desc).map (fun d => d.parameters.length) = some 0 := ⟨⟨by decide +kernel, by decide +kernel⟩, by decide +kernel⟩
noncomputable def F_X8_known_l22 : KK (L_S ⊕ OO) :=
  op_ild 2 <| op_ald 0 <| op_gfr [25] 101 <| op_gfi [26] 143 <| op_cge (op_exit <| op_ald 0 <| op_ild 1 <| op_call 2 (f_kd 25 F_X8_good) kx_no <| op_iret .int) (op_ild 1 <| op_push (.long 20) <| op_ald 0 <| op_ild 2 <| op_call 2 (f_kd 25 F_X8_pullsOf) kx_no <| op_ald 0 <| op_ild 2 <| op_call 2 (f_kd 25 F_X8_wonBy) kx_no <| op_call 2 F_X8_rowsOf kx_no <| op_l2 (fun x y => x * y) <| op_push (.long 1) <| op_ald 0 <| op_ild 2 <| op_call 2 (f_kd 25 F_X8_pullsOf) kx_no <| op_li (fun x y => x <<< (y.toInt64 &&& 63)) <| op_lcmp <| op_igt (op_push (.int 0) <| op_i2 (fun x y => x ||| y) <| op_ist 1 <| op_iinc 2 1 <| op_back) (op_push (.int 1) <| op_ild 2 <| op_i2 (fun x y => x <<< (y &&& 31)) <| op_i2 (fun x y => x ||| y) <| op_ist 1 <| op_iinc 2 1 <| op_back))
theorem bs_X8_known_l22 : B_S M_X8_known 22 (F_X8_known_l22) (z_L z_O) (k_L 22 k_O) := by
  unfold F_X8_known_l22
  refine BS_iload_n dX8_known_22 rfl ?_
  refine BS_aload_n dX8_known_23 rfl ?_
  refine BS_gfr f_X8_373 dX8_known_24 ?_
  refine BS_gfi f_X8_213 dX8_known_27 ?_
  refine BS_icmp_ge (tgt := 77) dX8_known_30 (by decide) ?_ ?_
  · refine BS_exit ?_
    refine BS_aload_n dX8_known_77 rfl ?_
    refine BS_iload_n dX8_known_78 rfl ?_
    refine BS_call (run_V dX8_known_79 con_X8_good (ci := 15) rfl rfl q2063 q2065 qs86 q146 q2066 pd_X8_good ⟨Nat.le_of_ble_eq_true rfl, Nat.le_of_ble_eq_true rfl⟩) BV_no ?_
    exact BS_ireturn dX8_known_82 rfl
  · refine BS_iload_n dX8_known_33 rfl ?_
    refine BS_ldc2 dX8_known_34 q2337 ?_
    refine BS_aload_n dX8_known_37 rfl ?_
    refine BS_iload_n dX8_known_38 rfl ?_
    refine BS_call (run_V dX8_known_39 con_X8_pullsOf (ci := 15) rfl rfl q2107 q2109 qs90 q146 q2110 pd_X8_pullsOf ⟨Nat.le_of_ble_eq_true rfl, Nat.le_of_ble_eq_true rfl⟩) BV_no ?_
    refine BS_aload_n dX8_known_42 rfl ?_
    refine BS_iload_n dX8_known_43 rfl ?_
    refine BS_call (run_V dX8_known_44 con_X8_wonBy (ci := 15) rfl rfl q2111 q2113 qs91 q146 q2114 pd_X8_wonBy ⟨Nat.le_of_ble_eq_true rfl, Nat.le_of_ble_eq_true rfl⟩) BV_no ?_
    refine BS_call (run_S dX8_known_47 con_X8_rowsOf q2326 q2327 q146 q2328 pd_X8_rowsOf ⟨Nat.le_of_ble_eq_true rfl, Nat.le_of_ble_eq_true rfl⟩) BV_no ?_
    refine BS_lmul dX8_known_50 ?_
    refine BS_lconst dX8_known_51 (by decide) ?_
    refine BS_aload_n dX8_known_52 rfl ?_
    refine BS_iload_n dX8_known_53 rfl ?_
    refine BS_call (run_V dX8_known_54 con_X8_pullsOf (ci := 15) rfl rfl q2107 q2109 qs90 q146 q2110 pd_X8_pullsOf ⟨Nat.le_of_ble_eq_true rfl, Nat.le_of_ble_eq_true rfl⟩) BV_no ?_
    refine BS_lshl dX8_known_57 ?_
    refine BS_lcmp dX8_known_58 ?_
    refine BS_if_gt (tgt := 68) dX8_known_59 (by decide) ?_ ?_
    · refine BS_iconst dX8_known_68 (by decide) ?_
      refine BS_ior dX8_known_69 ?_
      refine BS_istore_n dX8_known_70 rfl (Nat.le_of_ble_eq_true rfl) ?_
      refine BS_iinc dX8_known_71 (by decide) (Nat.le_of_ble_eq_true rfl) ?_
      refine BS_goto (tgt := 22) dX8_known_74 (by decide) ?_
      exact BS_back
    · refine BS_iconst dX8_known_62 (by decide) ?_
      refine BS_iload_n dX8_known_63 rfl ?_
      refine BS_ishl dX8_known_64 ?_
      refine BS_goto (tgt := 69) dX8_known_65 (by decide) ?_
      refine BS_ior dX8_known_69 ?_
      refine BS_istore_n dX8_known_70 rfl (Nat.le_of_ble_eq_true rfl) ?_
      refine BS_iinc dX8_known_71 (by decide) (Nat.le_of_ble_eq_true rfl) ?_
      refine BS_goto (tgt := 22) dX8_known_74 (by decide) ?_
      exact BS_back
noncomputable def F_X8_known_b22 : KK OO := op_loop (F_X8_known_l22)
theorem bs_X8_known_b22 : B_S M_X8_known 22 (F_X8_known_b22) z_O k_O := BS_loop (bs_X8_known_l22)
noncomputable def F_X8_known_b0 : KK OO :=
  op_ald 0 <| op_push (.int 0) <| op_pfi .int [25] 98 <| op_ald 0 <| op_gfr [25] 101 <| op_ifnn (op_push (.int 0) <| op_ist 1 <| op_push (.int 0) <| op_ist 2 <| F_X8_known_b22) (op_ald 0 <| op_push (.int 1) <| op_call 2 (f_kd 25 F_X8_refused) kx_no <| op_iret .int)
theorem bs_X8_known_b0 : B_S M_X8_known 0 (F_X8_known_b0) z_O k_O := by
  unfold F_X8_known_b0
  refine BS_aload_n dX8_known_0 rfl ?_
  refine BS_iconst dX8_known_1 (by decide) ?_
  refine BS_pfi p_X8_53 (fun h => by cases h) dX8_known_2 ?_
  refine BS_aload_n dX8_known_5 rfl ?_
  refine BS_gfr f_X8_373 dX8_known_6 ?_
  refine BS_ifnonnull (tgt := 18) dX8_known_9 (by decide) ?_ ?_
  · refine BS_iconst dX8_known_18 (by decide) ?_
    refine BS_istore_n dX8_known_19 rfl (Nat.le_of_ble_eq_true rfl) ?_
    refine BS_iconst dX8_known_20 (by decide) ?_
    refine BS_istore_n dX8_known_21 rfl (Nat.le_of_ble_eq_true rfl) ?_
    exact bs_X8_known_b22
  · refine BS_aload_n dX8_known_12 rfl ?_
    refine BS_iconst dX8_known_13 (by decide) ?_
    refine BS_call (run_V dX8_known_14 con_X8_refused (ci := 15) rfl rfl q1749 q1751 qs58 q146 q1752 pd_X8_refused ⟨Nat.le_of_ble_eq_true rfl, Nat.le_of_ble_eq_true rfl⟩) BV_no ?_
    exact BS_ireturn dX8_known_17 rfl
noncomputable def F_X8_known : FF := mk_F 3 F_X8_known_b0
theorem con_X8_known : Con_ yX8_known (ws_ yX8_known cX8_known 3 (some .int)) 2 46 F_X8_known := Con_of (by decide +kernel) bs_X8_known_b0
/-- LongerHalfModel.hens(I)I -/
abbrev M_X8_hens : MM := (yX8_hens, cX8_hens, (some .int), 1, 22, 3, [])
theorem pd_X8_hens : (yX8_hens.cls ≠ "java/lang/invoke/MethodHandle" ∧ yX8_hens.cls ≠ "java/lang/invoke/VarHandle") ∧ (parseMethodDescriptor yX8_hens.desc).map (fun d => d.parameters.length) = some 1 := ⟨⟨by decide +kernel, by decide +kernel⟩, by decide +kernel⟩
noncomputable def F_X8_hens_l37 : KK (L_S ⊕ OO) :=
  op_push (.int 1) <| op_ild 2 <| op_i2 (fun x y => x <<< (y &&& 31)) <| op_ild 1 <| op_cge (op_exit <| op_ald 0 <| op_ild 2 <| op_call 2 (f_kd 25 F_X8_good) kx_no <| op_iret .int) (op_iinc 2 1 <| op_back)
theorem bs_X8_hens_l37 : B_S M_X8_hens 37 (F_X8_hens_l37) (z_L z_O) (k_L 37 k_O) := by
  unfold F_X8_hens_l37
  refine BS_iconst dX8_hens_37 (by decide) ?_
  refine BS_iload_n dX8_hens_38 rfl ?_
  refine BS_ishl dX8_hens_39 ?_
  refine BS_iload_n dX8_hens_40 rfl ?_
  refine BS_icmp_ge (tgt := 50) dX8_hens_41 (by decide) ?_ ?_
  · refine BS_exit ?_
    refine BS_aload_n dX8_hens_50 rfl ?_
    refine BS_iload_n dX8_hens_51 rfl ?_
    refine BS_call (run_V dX8_hens_52 con_X8_good (ci := 15) rfl rfl q2063 q2065 qs86 q146 q2066 pd_X8_good ⟨Nat.le_of_ble_eq_true rfl, Nat.le_of_ble_eq_true rfl⟩) BV_no ?_
    exact BS_ireturn dX8_hens_55 rfl
  · refine BS_iinc dX8_hens_44 (by decide) (Nat.le_of_ble_eq_true rfl) ?_
    refine BS_goto (tgt := 37) dX8_hens_47 (by decide) ?_
    exact BS_back
noncomputable def F_X8_hens_b37 : KK OO := op_loop (F_X8_hens_l37)
theorem bs_X8_hens_b37 : B_S M_X8_hens 37 (F_X8_hens_b37) z_O k_O := BS_loop (bs_X8_hens_l37)
noncomputable def F_X8_hens_b0 : KK OO :=
  op_ald 0 <| op_push (.int 0) <| op_pfi .int [25] 98 <| op_ald 0 <| op_gfr [25] 101 <| op_ifnn (op_ild 1 <| op_push (.int 1) <| op_push (.int 1000000) <| op_call 3 F_X8_in kx_no <| op_ine (op_push (.int 0) <| op_ist 2 <| F_X8_hens_b37) (op_ald 0 <| op_push (.int 2) <| op_call 2 (f_kd 25 F_X8_refused) kx_no <| op_iret .int)) (op_ald 0 <| op_push (.int 1) <| op_call 2 (f_kd 25 F_X8_refused) kx_no <| op_iret .int)
theorem bs_X8_hens_b0 : B_S M_X8_hens 0 (F_X8_hens_b0) z_O k_O := by
  unfold F_X8_hens_b0
  refine BS_aload_n dX8_hens_0 rfl ?_
  refine BS_iconst dX8_hens_1 (by decide) ?_
  refine BS_pfi p_X8_53 (fun h => by cases h) dX8_hens_2 ?_
  refine BS_aload_n dX8_hens_5 rfl ?_
  refine BS_gfr f_X8_373 dX8_hens_6 ?_
  refine BS_ifnonnull (tgt := 18) dX8_hens_9 (by decide) ?_ ?_
  · refine BS_iload_n dX8_hens_18 rfl ?_
    refine BS_iconst dX8_hens_19 (by decide) ?_
    refine BS_ldcw dX8_hens_20 q2342 ?_
    refine BS_call (run_S dX8_hens_23 con_X8_in q1965 q1966 q146 q1967 pd_X8_in ⟨Nat.le_of_ble_eq_true rfl, Nat.le_of_ble_eq_true rfl⟩) BV_no ?_
    refine BS_if_ne (tgt := 35) dX8_hens_26 (by decide) ?_ ?_
    · refine BS_iconst dX8_hens_35 (by decide) ?_
      refine BS_istore_n dX8_hens_36 rfl (Nat.le_of_ble_eq_true rfl) ?_
      exact bs_X8_hens_b37
    · refine BS_aload_n dX8_hens_29 rfl ?_
      refine BS_iconst dX8_hens_30 (by decide) ?_
      refine BS_call (run_V dX8_hens_31 con_X8_refused (ci := 15) rfl rfl q1749 q1751 qs58 q146 q1752 pd_X8_refused ⟨Nat.le_of_ble_eq_true rfl, Nat.le_of_ble_eq_true rfl⟩) BV_no ?_
      exact BS_ireturn dX8_hens_34 rfl
  · refine BS_aload_n dX8_hens_12 rfl ?_
    refine BS_iconst dX8_hens_13 (by decide) ?_
    refine BS_call (run_V dX8_hens_14 con_X8_refused (ci := 15) rfl rfl q1749 q1751 qs58 q146 q1752 pd_X8_refused ⟨Nat.le_of_ble_eq_true rfl, Nat.le_of_ble_eq_true rfl⟩) BV_no ?_
    exact BS_ireturn dX8_hens_17 rfl
noncomputable def F_X8_hens : FF := mk_F 3 F_X8_hens_b0
theorem con_X8_hens : Con_ yX8_hens (ws_ yX8_hens cX8_hens 3 (some .int)) 1 22 F_X8_hens := Con_of (by decide +kernel) bs_X8_hens_b0
/-- LongerHalfModel.byTenths(III)J -/
abbrev M_X8_byTenths : MM := (yX8_byTenths, cX8_byTenths, (some .long), 0, 0, 7, [])
theorem pd_X8_byTenths : (yX8_byTenths.cls ≠ "java/lang/invoke/MethodHandle" ∧ yX8_byTenths.cls ≠ "java/lang/invoke/VarHandle") ∧ (parseMethodDescriptor yX8_byTenths.desc).map (fun d => d.parameters.length) = some 3 := ⟨⟨by decide +kernel, by decide +kernel⟩, by decide +kernel⟩
noncomputable def F_X8_byTenths_l28 : KK (L_S ⊕ OO) :=
  op_ild 6 <| op_ild 3 <| op_cge (op_exit <| op_lld 4 <| op_lret) (op_lld 4 <| op_push (.int 10) <| op_ild 1 <| op_i2 (fun x y => x - y) <| op_i2l <| op_l2 (fun x y => x * y) <| op_lst 4 <| op_iinc 6 1 <| op_back)
theorem bs_X8_byTenths_l28 : B_S M_X8_byTenths 28 (F_X8_byTenths_l28) (z_L z_O) (k_L 28 k_O) := by
  unfold F_X8_byTenths_l28
  refine BS_iload dX8_byTenths_28 ?_
  refine BS_iload_n dX8_byTenths_30 rfl ?_
  refine BS_icmp_ge (tgt := 50) dX8_byTenths_31 (by decide) ?_ ?_
  · refine BS_exit ?_
    refine BS_lload dX8_byTenths_50 ?_
    exact BS_lreturn dX8_byTenths_52 rfl
  · refine BS_lload dX8_byTenths_34 ?_
    refine BS_bipush dX8_byTenths_36 (by decide) ?_
    refine BS_iload_n dX8_byTenths_38 rfl ?_
    refine BS_isub dX8_byTenths_39 ?_
    refine BS_i2l dX8_byTenths_40 ?_
    refine BS_lmul dX8_byTenths_41 ?_
    refine BS_lstore dX8_byTenths_42 (Nat.le_of_ble_eq_true rfl) ?_
    refine BS_iinc dX8_byTenths_44 (by decide) (Nat.le_of_ble_eq_true rfl) ?_
    refine BS_goto (tgt := 28) dX8_byTenths_47 (by decide) ?_
    exact BS_back
noncomputable def F_X8_byTenths_b28 : KK OO := op_loop (F_X8_byTenths_l28)
theorem bs_X8_byTenths_b28 : B_S M_X8_byTenths 28 (F_X8_byTenths_b28) z_O k_O := BS_loop (bs_X8_byTenths_l28)
noncomputable def F_X8_byTenths_l6 : KK (L_S ⊕ OO) :=
  op_ild 6 <| op_ild 2 <| op_cge (op_exit <| op_push (.int 0) <| op_ist 6 <| F_X8_byTenths_b28) (op_lld 4 <| op_ild 1 <| op_i2l <| op_l2 (fun x y => x * y) <| op_lst 4 <| op_iinc 6 1 <| op_back)
theorem bs_X8_byTenths_l6 : B_S M_X8_byTenths 6 (F_X8_byTenths_l6) (z_L z_O) (k_L 6 k_O) := by
  unfold F_X8_byTenths_l6
  refine BS_iload dX8_byTenths_6 ?_
  refine BS_iload_n dX8_byTenths_8 rfl ?_
  refine BS_icmp_ge (tgt := 25) dX8_byTenths_9 (by decide) ?_ ?_
  · refine BS_exit ?_
    refine BS_iconst dX8_byTenths_25 (by decide) ?_
    refine BS_istore dX8_byTenths_26 (Nat.le_of_ble_eq_true rfl) ?_
    exact bs_X8_byTenths_b28
  · refine BS_lload dX8_byTenths_12 ?_
    refine BS_iload_n dX8_byTenths_14 rfl ?_
    refine BS_i2l dX8_byTenths_15 ?_
    refine BS_lmul dX8_byTenths_16 ?_
    refine BS_lstore dX8_byTenths_17 (Nat.le_of_ble_eq_true rfl) ?_
    refine BS_iinc dX8_byTenths_19 (by decide) (Nat.le_of_ble_eq_true rfl) ?_
    refine BS_goto (tgt := 6) dX8_byTenths_22 (by decide) ?_
    exact BS_back
noncomputable def F_X8_byTenths_b6 : KK OO := op_loop (F_X8_byTenths_l6)
theorem bs_X8_byTenths_b6 : B_S M_X8_byTenths 6 (F_X8_byTenths_b6) z_O k_O := BS_loop (bs_X8_byTenths_l6)
noncomputable def F_X8_byTenths_b0 : KK OO :=
  op_push (.long 1) <| op_lst 4 <| op_push (.int 0) <| op_ist 6 <| F_X8_byTenths_b6
theorem bs_X8_byTenths_b0 : B_S M_X8_byTenths 0 (F_X8_byTenths_b0) z_O k_O := by
  unfold F_X8_byTenths_b0
  refine BS_lconst dX8_byTenths_0 (by decide) ?_
  refine BS_lstore dX8_byTenths_1 (Nat.le_of_ble_eq_true rfl) ?_
  refine BS_iconst dX8_byTenths_3 (by decide) ?_
  refine BS_istore dX8_byTenths_4 (Nat.le_of_ble_eq_true rfl) ?_
  exact bs_X8_byTenths_b6
noncomputable def F_X8_byTenths : FF := mk_F 7 F_X8_byTenths_b0
theorem con_X8_byTenths : Con_ yX8_byTenths (ws_ yX8_byTenths cX8_byTenths 7 (some .long)) 0 0 F_X8_byTenths := Con_of (by decide +kernel) bs_X8_byTenths_b0
/-- LongerHalfModel.thumbs(IZ)J -/
abbrev M_X8_thumbs : MM := (yX8_thumbs, cX8_thumbs, (some .long), 2, 54, 9, [])
theorem pd_X8_thumbs : (yX8_thumbs.cls ≠ "java/lang/invoke/MethodHandle" ∧ yX8_thumbs.cls ≠ "java/lang/invoke/VarHandle") ∧ (parseMethodDescriptor yX8_thumbs.desc).map (fun d => d.parameters.length) = some 2 := ⟨⟨by decide +kernel, by decide +kernel⟩, by decide +kernel⟩
noncomputable def F_X8_thumbs_b94 : KK OO :=
  op_ild 1 <| op_iald 1 <| op_i2 (fun x y => x - y) <| op_i2l <| op_ald 0 <| op_ald 0 <| op_gfr [25] 101 <| op_gfr [26] 166 <| op_ild 1 <| op_iald 1 <| op_ild 3 <| op_ild 4 <| op_call 4 (f_kd 25 F_X8_byTenths) kx_no <| op_l2 (fun x y => x * y) <| op_lst 7 <| op_ald 0 <| op_lld 5 <| op_lld 5 <| op_lld 7 <| op_l2 (fun x y => x + y) <| op_ild 2 <| op_call 4 (f_kd 25 F_X8_fraction) kx_no <| op_lret
theorem bs_X8_thumbs_b94 : B_S M_X8_thumbs 94 (F_X8_thumbs_b94) z_O k_O := by
  unfold F_X8_thumbs_b94
  refine BS_iload_n dX8_thumbs_94 rfl ?_
  refine BS_iaload dX8_thumbs_95 ?_
  refine BS_isub dX8_thumbs_96 ?_
  refine BS_i2l dX8_thumbs_97 ?_
  refine BS_aload_n dX8_thumbs_98 rfl ?_
  refine BS_aload_n dX8_thumbs_99 rfl ?_
  refine BS_gfr f_X8_373 dX8_thumbs_100 ?_
  refine BS_gfr f_X8_363 dX8_thumbs_103 ?_
  refine BS_iload_n dX8_thumbs_106 rfl ?_
  refine BS_iaload dX8_thumbs_107 ?_
  refine BS_iload_n dX8_thumbs_108 rfl ?_
  refine BS_iload dX8_thumbs_109 ?_
  refine BS_call (run_V dX8_thumbs_111 con_X8_byTenths (ci := 15) rfl rfl q2347 q2349 qs124 q146 q2350 pd_X8_byTenths ⟨Nat.le_of_ble_eq_true rfl, Nat.le_of_ble_eq_true rfl⟩) BV_no ?_
  refine BS_lmul dX8_thumbs_114 ?_
  refine BS_lstore dX8_thumbs_115 (Nat.le_of_ble_eq_true rfl) ?_
  refine BS_aload_n dX8_thumbs_117 rfl ?_
  refine BS_lload dX8_thumbs_118 ?_
  refine BS_lload dX8_thumbs_120 ?_
  refine BS_lload dX8_thumbs_122 ?_
  refine BS_ladd dX8_thumbs_124 ?_
  refine BS_iload_n dX8_thumbs_125 rfl ?_
  refine BS_call (run_V dX8_thumbs_126 con_X8_fraction (ci := 15) rfl rfl q2189 q2191 qs104 q146 q2192 pd_X8_fraction ⟨Nat.le_of_ble_eq_true rfl, Nat.le_of_ble_eq_true rfl⟩) BV_no ?_
  exact BS_lreturn dX8_thumbs_129 rfl
noncomputable def F_X8_thumbs_b33 : KK OO :=
  op_ald 0 <| op_push (.int 6) <| op_call 2 (f_kd 25 F_X8_refused) kx_no <| op_i2l <| op_lret
theorem bs_X8_thumbs_b33 : B_S M_X8_thumbs 33 (F_X8_thumbs_b33) z_O k_O := by
  unfold F_X8_thumbs_b33
  refine BS_aload_n dX8_thumbs_33 rfl ?_
  refine BS_bipush dX8_thumbs_34 (by decide) ?_
  refine BS_call (run_V dX8_thumbs_36 con_X8_refused (ci := 15) rfl rfl q1749 q1751 qs58 q146 q1752 pd_X8_refused ⟨Nat.le_of_ble_eq_true rfl, Nat.le_of_ble_eq_true rfl⟩) BV_no ?_
  refine BS_i2l dX8_thumbs_39 ?_
  exact BS_lreturn dX8_thumbs_40 rfl
noncomputable def F_X8_thumbs_b13 : KK OO :=
  op_ald 0 <| op_push (.int 1) <| op_call 2 (f_kd 25 F_X8_refused) kx_no <| op_i2l <| op_lret
theorem bs_X8_thumbs_b13 : B_S M_X8_thumbs 13 (F_X8_thumbs_b13) z_O k_O := by
  unfold F_X8_thumbs_b13
  refine BS_aload_n dX8_thumbs_13 rfl ?_
  refine BS_iconst dX8_thumbs_14 (by decide) ?_
  refine BS_call (run_V dX8_thumbs_15 con_X8_refused (ci := 15) rfl rfl q1749 q1751 qs58 q146 q1752 pd_X8_refused ⟨Nat.le_of_ble_eq_true rfl, Nat.le_of_ble_eq_true rfl⟩) BV_no ?_
  refine BS_i2l dX8_thumbs_18 ?_
  exact BS_lreturn dX8_thumbs_19 rfl
noncomputable def F_X8_thumbs_b0 : KK OO :=
  op_ald 0 <| op_push (.int 0) <| op_pfi .int [25] 98 <| op_ald 0 <| op_ild 1 <| op_call 2 (f_kd 25 F_X8_isPerson) kx_no <| op_ine (op_ald 0 <| op_gfr [25] 101 <| op_gfr [26] 164 <| op_ild 1 <| op_iald 1 <| op_push (.int (-1)) <| op_cne (op_ald 0 <| op_ild 1 <| op_call 2 (f_kd 25 F_X8_wonBy) kx_no <| op_ist 3 <| op_ald 0 <| op_ild 1 <| op_call 2 (f_kd 25 F_X8_pullsOf) kx_no <| op_ild 3 <| op_i2 (fun x y => x - y) <| op_ist 4 <| op_ald 0 <| op_gfr [25] 101 <| op_gfr [26] 164 <| op_ild 1 <| op_iald 1 <| op_i2l <| op_ald 0 <| op_ald 0 <| op_gfr [25] 101 <| op_gfr [26] 165 <| op_ild 1 <| op_iald 1 <| op_ild 3 <| op_ild 4 <| op_call 4 (f_kd 25 F_X8_byTenths) kx_no <| op_l2 (fun x y => x * y) <| op_lst 5 <| op_push (.int 100) <| op_ald 0 <| op_gfr [25] 101 <| op_gfr [26] 164 <| F_X8_thumbs_b94) (F_X8_thumbs_b33)) (F_X8_thumbs_b13)
theorem bs_X8_thumbs_b0 : B_S M_X8_thumbs 0 (F_X8_thumbs_b0) z_O k_O := by
  unfold F_X8_thumbs_b0
  refine BS_aload_n dX8_thumbs_0 rfl ?_
  refine BS_iconst dX8_thumbs_1 (by decide) ?_
  refine BS_pfi p_X8_53 (fun h => by cases h) dX8_thumbs_2 ?_
  refine BS_aload_n dX8_thumbs_5 rfl ?_
  refine BS_iload_n dX8_thumbs_6 rfl ?_
  refine BS_call (run_V dX8_thumbs_7 con_X8_isPerson (ci := 15) rfl rfl q2103 q2105 qs89 q146 q2106 pd_X8_isPerson ⟨Nat.le_of_ble_eq_true rfl, Nat.le_of_ble_eq_true rfl⟩) BV_no ?_
  refine BS_if_ne (tgt := 20) dX8_thumbs_10 (by decide) ?_ ?_
  · refine BS_aload_n dX8_thumbs_20 rfl ?_
    refine BS_gfr f_X8_373 dX8_thumbs_21 ?_
    refine BS_gfr f_X8_316 dX8_thumbs_24 ?_
    refine BS_iload_n dX8_thumbs_27 rfl ?_
    refine BS_iaload dX8_thumbs_28 ?_
    refine BS_iconst dX8_thumbs_29 (by decide) ?_
    refine BS_icmp_ne (tgt := 41) dX8_thumbs_30 (by decide) ?_ ?_
    · refine BS_aload_n dX8_thumbs_41 rfl ?_
      refine BS_iload_n dX8_thumbs_42 rfl ?_
      refine BS_call (run_V dX8_thumbs_43 con_X8_wonBy (ci := 15) rfl rfl q2111 q2113 qs91 q146 q2114 pd_X8_wonBy ⟨Nat.le_of_ble_eq_true rfl, Nat.le_of_ble_eq_true rfl⟩) BV_no ?_
      refine BS_istore_n dX8_thumbs_46 rfl (Nat.le_of_ble_eq_true rfl) ?_
      refine BS_aload_n dX8_thumbs_47 rfl ?_
      refine BS_iload_n dX8_thumbs_48 rfl ?_
      refine BS_call (run_V dX8_thumbs_49 con_X8_pullsOf (ci := 15) rfl rfl q2107 q2109 qs90 q146 q2110 pd_X8_pullsOf ⟨Nat.le_of_ble_eq_true rfl, Nat.le_of_ble_eq_true rfl⟩) BV_no ?_
      refine BS_iload_n dX8_thumbs_52 rfl ?_
      refine BS_isub dX8_thumbs_53 ?_
      refine BS_istore dX8_thumbs_54 (Nat.le_of_ble_eq_true rfl) ?_
      refine BS_aload_n dX8_thumbs_56 rfl ?_
      refine BS_gfr f_X8_373 dX8_thumbs_57 ?_
      refine BS_gfr f_X8_316 dX8_thumbs_60 ?_
      refine BS_iload_n dX8_thumbs_63 rfl ?_
      refine BS_iaload dX8_thumbs_64 ?_
      refine BS_i2l dX8_thumbs_65 ?_
      refine BS_aload_n dX8_thumbs_66 rfl ?_
      refine BS_aload_n dX8_thumbs_67 rfl ?_
      refine BS_gfr f_X8_373 dX8_thumbs_68 ?_
      refine BS_gfr f_X8_360 dX8_thumbs_71 ?_
      refine BS_iload_n dX8_thumbs_74 rfl ?_
      refine BS_iaload dX8_thumbs_75 ?_
      refine BS_iload_n dX8_thumbs_76 rfl ?_
      refine BS_iload dX8_thumbs_77 ?_
      refine BS_call (run_V dX8_thumbs_79 con_X8_byTenths (ci := 15) rfl rfl q2347 q2349 qs124 q146 q2350 pd_X8_byTenths ⟨Nat.le_of_ble_eq_true rfl, Nat.le_of_ble_eq_true rfl⟩) BV_no ?_
      refine BS_lmul dX8_thumbs_82 ?_
      refine BS_lstore dX8_thumbs_83 (Nat.le_of_ble_eq_true rfl) ?_
      refine BS_bipush dX8_thumbs_85 (by decide) ?_
      refine BS_aload_n dX8_thumbs_87 rfl ?_
      refine BS_gfr f_X8_373 dX8_thumbs_88 ?_
      refine BS_gfr f_X8_316 dX8_thumbs_91 ?_
      exact bs_X8_thumbs_b94
    · exact bs_X8_thumbs_b33
  · exact bs_X8_thumbs_b13
noncomputable def F_X8_thumbs : FF := mk_F 9 F_X8_thumbs_b0
theorem con_X8_thumbs : Con_ yX8_thumbs (ws_ yX8_thumbs cX8_thumbs 9 (some .long)) 2 54 F_X8_thumbs := Con_of (by decide +kernel) bs_X8_thumbs_b0
/-- LongerHalfModel.worthOf(I)I -/
abbrev M_X8_worthOf : MM := (yX8_worthOf, cX8_worthOf, (some .int), 0, 0, 2, [])
theorem pd_X8_worthOf : (yX8_worthOf.cls ≠ "java/lang/invoke/MethodHandle" ∧ yX8_worthOf.cls ≠ "java/lang/invoke/VarHandle") ∧ (parseMethodDescriptor yX8_worthOf.desc).map (fun d => d.parameters.length) = some 1 := ⟨⟨by decide +kernel, by decide +kernel⟩, by decide +kernel⟩
noncomputable def F_X8_worthOf_b0 : KK OO :=
  op_ald 0 <| op_gfr [25] 101 <| op_gfr [26] 156 <| op_ild 1 <| op_iald 1 <| op_ald 0 <| op_gfr [25] 101 <| op_gfr [26] 158 <| op_ild 1 <| op_iald 1 <| op_i2 (fun x y => x + y) <| op_iret .int
theorem bs_X8_worthOf_b0 : B_S M_X8_worthOf 0 (F_X8_worthOf_b0) z_O k_O := by
  unfold F_X8_worthOf_b0
  refine BS_aload_n dX8_worthOf_0 rfl ?_
  refine BS_gfr f_X8_373 dX8_worthOf_1 ?_
  refine BS_gfr f_X8_314 dX8_worthOf_4 ?_
  refine BS_iload_n dX8_worthOf_7 rfl ?_
  refine BS_iaload dX8_worthOf_8 ?_
  refine BS_aload_n dX8_worthOf_9 rfl ?_
  refine BS_gfr f_X8_373 dX8_worthOf_10 ?_
  refine BS_gfr f_X8_331 dX8_worthOf_13 ?_
  refine BS_iload_n dX8_worthOf_16 rfl ?_
  refine BS_iaload dX8_worthOf_17 ?_
  refine BS_iadd dX8_worthOf_18 ?_
  exact BS_ireturn dX8_worthOf_19 rfl
noncomputable def F_X8_worthOf : FF := mk_F 2 F_X8_worthOf_b0
theorem con_X8_worthOf : Con_ yX8_worthOf (ws_ yX8_worthOf cX8_worthOf 2 (some .int)) 0 0 F_X8_worthOf := Con_of (by decide +kernel) bs_X8_worthOf_b0
/-- LongerHalfModel.let(II)I -/
abbrev M_X8_let : MM := (yX8_let, cX8_let, (some .int), 2, 43, 5, [])
theorem pd_X8_let : (yX8_let.cls ≠ "java/lang/invoke/MethodHandle" ∧ yX8_let.cls ≠ "java/lang/invoke/VarHandle") ∧ (parseMethodDescriptor yX8_let.desc).map (fun d => d.parameters.length) = some 2 := ⟨⟨by decide +kernel, by decide +kernel⟩, by decide +kernel⟩
noncomputable def F_X8_let_b64 : KK OO :=
  op_call 2 (f_kd 25 F_X8_good) kx_no <| op_iret .int
theorem bs_X8_let_b64 : B_S M_X8_let 64 (F_X8_let_b64) z_O k_O := by
  unfold F_X8_let_b64
  refine BS_call (run_V dX8_let_64 con_X8_good (ci := 15) rfl rfl q2063 q2065 qs86 q146 q2066 pd_X8_good ⟨Nat.le_of_ble_eq_true rfl, Nat.le_of_ble_eq_true rfl⟩) BV_no ?_
  exact BS_ireturn dX8_let_67 rfl
noncomputable def F_X8_let_b41 : KK OO :=
  op_ist 4 <| op_ald 0 <| op_ald 0 <| op_ild 4 <| op_call 2 (f_kd 25 F_X8_worthOf) kx_no <| op_ald 0 <| op_ild 3 <| op_call 2 (f_kd 25 F_X8_worthOf) kx_no <| op_cle (op_ild 3 <| F_X8_let_b64) (op_ild 4 <| F_X8_let_b64)
theorem bs_X8_let_b41 : B_S M_X8_let 41 (F_X8_let_b41) z_O k_O := by
  unfold F_X8_let_b41
  refine BS_istore dX8_let_41 (Nat.le_of_ble_eq_true rfl) ?_
  refine BS_aload_n dX8_let_43 rfl ?_
  refine BS_aload_n dX8_let_44 rfl ?_
  refine BS_iload dX8_let_45 ?_
  refine BS_call (run_V dX8_let_47 con_X8_worthOf (ci := 15) rfl rfl q2355 q2357 qs125 q146 q2358 pd_X8_worthOf ⟨Nat.le_of_ble_eq_true rfl, Nat.le_of_ble_eq_true rfl⟩) BV_no ?_
  refine BS_aload_n dX8_let_50 rfl ?_
  refine BS_iload_n dX8_let_51 rfl ?_
  refine BS_call (run_V dX8_let_52 con_X8_worthOf (ci := 15) rfl rfl q2355 q2357 qs125 q146 q2358 pd_X8_worthOf ⟨Nat.le_of_ble_eq_true rfl, Nat.le_of_ble_eq_true rfl⟩) BV_no ?_
  refine BS_icmp_le (tgt := 63) dX8_let_55 (by decide) ?_ ?_
  · refine BS_iload_n dX8_let_63 rfl ?_
    exact bs_X8_let_b64
  · refine BS_iload dX8_let_58 ?_
    refine BS_goto (tgt := 64) dX8_let_60 (by decide) ?_
    exact bs_X8_let_b64
noncomputable def F_X8_let_b30 : KK OO :=
  op_ist 3 <| op_ild 1 <| op_ild 2 <| op_cge (op_ild 1 <| F_X8_let_b41) (op_ild 2 <| F_X8_let_b41)
theorem bs_X8_let_b30 : B_S M_X8_let 30 (F_X8_let_b30) z_O k_O := by
  unfold F_X8_let_b30
  refine BS_istore_n dX8_let_30 rfl (Nat.le_of_ble_eq_true rfl) ?_
  refine BS_iload_n dX8_let_31 rfl ?_
  refine BS_iload_n dX8_let_32 rfl ?_
  refine BS_icmp_ge (tgt := 40) dX8_let_33 (by decide) ?_ ?_
  · refine BS_iload_n dX8_let_40 rfl ?_
    exact bs_X8_let_b41
  · refine BS_iload_n dX8_let_36 rfl ?_
    refine BS_goto (tgt := 41) dX8_let_37 (by decide) ?_
    exact bs_X8_let_b41
noncomputable def F_X8_let_b0 : KK OO :=
  op_ald 0 <| op_push (.int 0) <| op_pfi .int [25] 98 <| op_ald 0 <| op_ild 1 <| op_ild 2 <| op_call 3 (f_kd 25 F_X8_isPair) kx_no <| op_ine (op_ild 1 <| op_ild 2 <| op_cge (op_ild 2 <| F_X8_let_b30) (op_ild 1 <| F_X8_let_b30)) (op_ald 0 <| op_push (.int 1) <| op_call 2 (f_kd 25 F_X8_refused) kx_no <| op_iret .int)
theorem bs_X8_let_b0 : B_S M_X8_let 0 (F_X8_let_b0) z_O k_O := by
  unfold F_X8_let_b0
  refine BS_aload_n dX8_let_0 rfl ?_
  refine BS_iconst dX8_let_1 (by decide) ?_
  refine BS_pfi p_X8_53 (fun h => by cases h) dX8_let_2 ?_
  refine BS_aload_n dX8_let_5 rfl ?_
  refine BS_iload_n dX8_let_6 rfl ?_
  refine BS_iload_n dX8_let_7 rfl ?_
  refine BS_call (run_V dX8_let_8 con_X8_isPair (ci := 15) rfl rfl q2135 q2137 qs95 q146 q2138 pd_X8_isPair ⟨Nat.le_of_ble_eq_true rfl, Nat.le_of_ble_eq_true rfl⟩) BV_no ?_
  refine BS_if_ne (tgt := 20) dX8_let_11 (by decide) ?_ ?_
  · refine BS_iload_n dX8_let_20 rfl ?_
    refine BS_iload_n dX8_let_21 rfl ?_
    refine BS_icmp_ge (tgt := 29) dX8_let_22 (by decide) ?_ ?_
    · refine BS_iload_n dX8_let_29 rfl ?_
      exact bs_X8_let_b30
    · refine BS_iload_n dX8_let_25 rfl ?_
      refine BS_goto (tgt := 30) dX8_let_26 (by decide) ?_
      exact bs_X8_let_b30
  · refine BS_aload_n dX8_let_14 rfl ?_
    refine BS_iconst dX8_let_15 (by decide) ?_
    refine BS_call (run_V dX8_let_16 con_X8_refused (ci := 15) rfl rfl q1749 q1751 qs58 q146 q1752 pd_X8_refused ⟨Nat.le_of_ble_eq_true rfl, Nat.le_of_ble_eq_true rfl⟩) BV_no ?_
    exact BS_ireturn dX8_let_19 rfl
noncomputable def F_X8_let : FF := mk_F 5 F_X8_let_b0
theorem con_X8_let : Con_ yX8_let (ws_ yX8_let cX8_let 5 (some .int)) 2 43 F_X8_let := Con_of (by decide +kernel) bs_X8_let_b0
/-- LongerHalfModel.worth(I)I -/
abbrev M_X8_worth : MM := (yX8_worth, cX8_worth, (some .int), 1, 21, 2, [])
theorem pd_X8_worth : (yX8_worth.cls ≠ "java/lang/invoke/MethodHandle" ∧ yX8_worth.cls ≠ "java/lang/invoke/VarHandle") ∧ (parseMethodDescriptor yX8_worth.desc).map (fun d => d.parameters.length) = some 1 := ⟨⟨by decide +kernel, by decide +kernel⟩, by decide +kernel⟩
noncomputable def F_X8_worth_b0 : KK OO :=
  op_ald 0 <| op_push (.int 0) <| op_pfi .int [25] 98 <| op_ald 0 <| op_ild 1 <| op_call 2 (f_kd 25 F_X8_isPerson) kx_no <| op_ieq (op_ald 0 <| op_push (.int 1) <| op_call 2 (f_kd 25 F_X8_refused) kx_no <| op_iret .int) (op_ald 0 <| op_ald 0 <| op_ild 1 <| op_call 2 (f_kd 25 F_X8_worthOf) kx_no <| op_call 2 (f_kd 25 F_X8_good) kx_no <| op_iret .int)
theorem bs_X8_worth_b0 : B_S M_X8_worth 0 (F_X8_worth_b0) z_O k_O := by
  unfold F_X8_worth_b0
  refine BS_aload_n dX8_worth_0 rfl ?_
  refine BS_iconst dX8_worth_1 (by decide) ?_
  refine BS_pfi p_X8_53 (fun h => by cases h) dX8_worth_2 ?_
  refine BS_aload_n dX8_worth_5 rfl ?_
  refine BS_iload_n dX8_worth_6 rfl ?_
  refine BS_call (run_V dX8_worth_7 con_X8_isPerson (ci := 15) rfl rfl q2103 q2105 qs89 q146 q2106 pd_X8_isPerson ⟨Nat.le_of_ble_eq_true rfl, Nat.le_of_ble_eq_true rfl⟩) BV_no ?_
  refine BS_if_eq (tgt := 25) dX8_worth_10 (by decide) ?_ ?_
  · refine BS_aload_n dX8_worth_25 rfl ?_
    refine BS_iconst dX8_worth_26 (by decide) ?_
    refine BS_call (run_V dX8_worth_27 con_X8_refused (ci := 15) rfl rfl q1749 q1751 qs58 q146 q1752 pd_X8_refused ⟨Nat.le_of_ble_eq_true rfl, Nat.le_of_ble_eq_true rfl⟩) BV_no ?_
    exact BS_ireturn dX8_worth_30 rfl
  · refine BS_aload_n dX8_worth_13 rfl ?_
    refine BS_aload_n dX8_worth_14 rfl ?_
    refine BS_iload_n dX8_worth_15 rfl ?_
    refine BS_call (run_V dX8_worth_16 con_X8_worthOf (ci := 15) rfl rfl q2355 q2357 qs125 q146 q2358 pd_X8_worthOf ⟨Nat.le_of_ble_eq_true rfl, Nat.le_of_ble_eq_true rfl⟩) BV_no ?_
    refine BS_call (run_V dX8_worth_19 con_X8_good (ci := 15) rfl rfl q2063 q2065 qs86 q146 q2066 pd_X8_good ⟨Nat.le_of_ble_eq_true rfl, Nat.le_of_ble_eq_true rfl⟩) BV_no ?_
    refine BS_goto (tgt := 30) dX8_worth_22 (by decide) ?_
    exact BS_ireturn dX8_worth_30 rfl
noncomputable def F_X8_worth : FF := mk_F 2 F_X8_worth_b0
theorem con_X8_worth : Con_ yX8_worth (ws_ yX8_worth cX8_worth 2 (some .int)) 1 21 F_X8_worth := Con_of (by decide +kernel) bs_X8_worth_b0
/-- LongerHalfModel.isPiece(I)Z -/
abbrev M_X8_isPiece : MM := (yX8_isPiece, cX8_isPiece, (some .boolean), 0, 0, 2, [])
theorem pd_X8_isPiece : (yX8_isPiece.cls ≠ "java/lang/invoke/MethodHandle" ∧ yX8_isPiece.cls ≠ "java/lang/invoke/VarHandle") ∧ (parseMethodDescriptor yX8_isPiece.desc).map (fun d => d.parameters.length) = some 1 := ⟨⟨by decide +kernel, by decide +kernel⟩, by decide +kernel⟩
noncomputable def F_X8_isPiece_b0 : KK OO :=
  op_ald 0 <| op_gfr [25] 101 <| op_ifn (op_push (.int 0) <| op_iret .boolean) (op_ild 1 <| op_ilt (op_push (.int 0) <| op_iret .boolean) (op_ild 1 <| op_ald 0 <| op_gfr [25] 101 <| op_gfi [26] 146 <| op_cge (op_push (.int 0) <| op_iret .boolean) (op_push (.int 1) <| op_iret .boolean)))
theorem bs_X8_isPiece_b0 : B_S M_X8_isPiece 0 (F_X8_isPiece_b0) z_O k_O := by
  unfold F_X8_isPiece_b0
  refine BS_aload_n dX8_isPiece_0 rfl ?_
  refine BS_gfr f_X8_373 dX8_isPiece_1 ?_
  refine BS_ifnull (tgt := 26) dX8_isPiece_4 (by decide) ?_ ?_
  · refine BS_iconst dX8_isPiece_26 (by decide) ?_
    exact BS_ireturn dX8_isPiece_27 rfl
  · refine BS_iload_n dX8_isPiece_7 rfl ?_
    refine BS_if_lt (tgt := 26) dX8_isPiece_8 (by decide) ?_ ?_
    · refine BS_iconst dX8_isPiece_26 (by decide) ?_
      exact BS_ireturn dX8_isPiece_27 rfl
    · refine BS_iload_n dX8_isPiece_11 rfl ?_
      refine BS_aload_n dX8_isPiece_12 rfl ?_
      refine BS_gfr f_X8_373 dX8_isPiece_13 ?_
      refine BS_gfi f_X8_349 dX8_isPiece_16 ?_
      refine BS_icmp_ge (tgt := 26) dX8_isPiece_19 (by decide) ?_ ?_
      · refine BS_iconst dX8_isPiece_26 (by decide) ?_
        exact BS_ireturn dX8_isPiece_27 rfl
      · refine BS_iconst dX8_isPiece_22 (by decide) ?_
        refine BS_goto (tgt := 27) dX8_isPiece_23 (by decide) ?_
        exact BS_ireturn dX8_isPiece_27 rfl
noncomputable def F_X8_isPiece : FF := mk_F 2 F_X8_isPiece_b0
theorem con_X8_isPiece : Con_ yX8_isPiece (ws_ yX8_isPiece cX8_isPiece 2 (some .boolean)) 0 0 F_X8_isPiece := Con_of (by decide +kernel) bs_X8_isPiece_b0
/-- LongerHalfModel.knobs(I)I -/
abbrev M_X8_knobs : MM := (yX8_knobs, cX8_knobs, (some .int), 5, 121, 7, [])
theorem pd_X8_knobs : (yX8_knobs.cls ≠ "java/lang/invoke/MethodHandle" ∧ yX8_knobs.cls ≠ "java/lang/invoke/VarHandle") ∧ (parseMethodDescriptor yX8_knobs.desc).map (fun d => d.parameters.length) = some 1 := ⟨⟨by decide +kernel, by decide +kernel⟩, by decide +kernel⟩
noncomputable def F_X8_knobs_b128 : KK (L_S ⊕ (L_S ⊕ (L_S ⊕ OO))) :=
  op_i2 (fun x y => x <<< (y &&& 31)) <| op_i2 (fun x y => x ||| y) <| op_pfi .int [25] 132 <| op_iinc 2 1 <| op_iinc 5 1 <| op_back
theorem bs_X8_knobs_b128 : B_S M_X8_knobs 128 (F_X8_knobs_b128) (z_L (z_L (z_L z_O))) (k_L 38 (k_L 23 (k_L 9 k_O))) := by
  unfold F_X8_knobs_b128
  refine BS_ishl dX8_knobs_128 ?_
  refine BS_ior dX8_knobs_129 ?_
  refine BS_pfi p_X8_552 (fun h => by cases h) dX8_knobs_130 ?_
  refine BS_iinc dX8_knobs_133 (by decide) (Nat.le_of_ble_eq_true rfl) ?_
  refine BS_iinc dX8_knobs_136 (by decide) (Nat.le_of_ble_eq_true rfl) ?_
  refine BS_goto (tgt := 38) dX8_knobs_139 (by decide) ?_
  exact BS_back
noncomputable def F_X8_knobs_b107 : KK (L_S ⊕ (L_S ⊕ (L_S ⊕ OO))) :=
  op_iinc 5 1 <| op_back
theorem bs_X8_knobs_b107 : B_S M_X8_knobs 107 (F_X8_knobs_b107) (z_L (z_L (z_L z_O))) (k_L 38 (k_L 23 (k_L 9 k_O))) := by
  unfold F_X8_knobs_b107
  refine BS_goto (tgt := 136) dX8_knobs_107 (by decide) ?_
  refine BS_iinc dX8_knobs_136 (by decide) (Nat.le_of_ble_eq_true rfl) ?_
  refine BS_goto (tgt := 38) dX8_knobs_139 (by decide) ?_
  exact BS_back
noncomputable def F_X8_knobs_b57 : KK (L_S ⊕ (L_S ⊕ (L_S ⊕ OO))) :=
  op_iinc 5 1 <| op_back
theorem bs_X8_knobs_b57 : B_S M_X8_knobs 57 (F_X8_knobs_b57) (z_L (z_L (z_L z_O))) (k_L 38 (k_L 23 (k_L 9 k_O))) := by
  unfold F_X8_knobs_b57
  refine BS_goto (tgt := 136) dX8_knobs_57 (by decide) ?_
  refine BS_iinc dX8_knobs_136 (by decide) (Nat.le_of_ble_eq_true rfl) ?_
  refine BS_goto (tgt := 38) dX8_knobs_139 (by decide) ?_
  exact BS_back
noncomputable def F_X8_knobs_l38 : KK (L_S ⊕ (L_S ⊕ (L_S ⊕ OO))) :=
  op_ild 5 <| op_ald 0 <| op_gfr [25] 101 <| op_gfi [26] 143 <| op_cge (op_exit <| op_iinc 4 1 <| op_back) (op_ild 4 <| op_ild 5 <| op_cne (op_ald 0 <| op_ild 3 <| op_ild 4 <| op_ild 5 <| op_call 4 (f_kd 25 F_X8_laysTold) kx_no <| op_ald 0 <| op_call 1 (f_kd 25 F_X8_comes) kx_no <| op_ist 6 <| op_ald 0 <| op_gfi [25] 123 <| op_ald 0 <| op_gfr [25] 101 <| op_gfr [26] 162 <| op_ild 1 <| op_iald 1 <| op_cne (op_iinc 5 1 <| op_back) (op_ald 0 <| op_gfi [25] 124 <| op_ald 0 <| op_gfr [25] 101 <| op_gfr [26] 163 <| op_ild 1 <| op_iald 1 <| op_ceq (op_ald 0 <| op_dup <| op_gfi [25] 132 <| op_push (.int 1) <| op_ild 6 <| op_ine (op_ild 5 <| F_X8_knobs_b128) (op_ild 4 <| F_X8_knobs_b128)) (F_X8_knobs_b107))) (F_X8_knobs_b57))
theorem bs_X8_knobs_l38 : B_S M_X8_knobs 38 (F_X8_knobs_l38) (z_L (z_L (z_L z_O))) (k_L 38 (k_L 23 (k_L 9 k_O))) := by
  unfold F_X8_knobs_l38
  refine BS_iload dX8_knobs_38 ?_
  refine BS_aload_n dX8_knobs_40 rfl ?_
  refine BS_gfr f_X8_373 dX8_knobs_41 ?_
  refine BS_gfi f_X8_213 dX8_knobs_44 ?_
  refine BS_icmp_ge (tgt := 142) dX8_knobs_47 (by decide) ?_ ?_
  · refine BS_exit ?_
    refine BS_iinc dX8_knobs_142 (by decide) (Nat.le_of_ble_eq_true rfl) ?_
    refine BS_goto (tgt := 23) dX8_knobs_145 (by decide) ?_
    exact BS_back
  · refine BS_iload dX8_knobs_50 ?_
    refine BS_iload dX8_knobs_52 ?_
    refine BS_icmp_ne (tgt := 60) dX8_knobs_54 (by decide) ?_ ?_
    · refine BS_aload_n dX8_knobs_60 rfl ?_
      refine BS_iload_n dX8_knobs_61 rfl ?_
      refine BS_iload dX8_knobs_62 ?_
      refine BS_iload dX8_knobs_64 ?_
      refine BS_call (run_V dX8_knobs_66 con_X8_laysTold (ci := 15) rfl rfl q2239 q2241 qs110 q146 q2242 pd_X8_laysTold ⟨Nat.le_of_ble_eq_true rfl, Nat.le_of_ble_eq_true rfl⟩) BV_no ?_
      refine BS_aload_n dX8_knobs_69 rfl ?_
      refine BS_call (run_V dX8_knobs_70 con_X8_comes (ci := 15) rfl rfl q2151 q2153 qs98 q146 q2154 pd_X8_comes ⟨Nat.le_of_ble_eq_true rfl, Nat.le_of_ble_eq_true rfl⟩) BV_no ?_
      refine BS_istore dX8_knobs_73 (Nat.le_of_ble_eq_true rfl) ?_
      refine BS_aload_n dX8_knobs_75 rfl ?_
      refine BS_gfi f_X8_419 dX8_knobs_76 ?_
      refine BS_aload_n dX8_knobs_79 rfl ?_
      refine BS_gfr f_X8_373 dX8_knobs_80 ?_
      refine BS_gfr f_X8_352 dX8_knobs_83 ?_
      refine BS_iload_n dX8_knobs_86 rfl ?_
      refine BS_iaload dX8_knobs_87 ?_
      refine BS_icmp_ne (tgt := 136) dX8_knobs_88 (by decide) ?_ ?_
      · refine BS_iinc dX8_knobs_136 (by decide) (Nat.le_of_ble_eq_true rfl) ?_
        refine BS_goto (tgt := 38) dX8_knobs_139 (by decide) ?_
        exact BS_back
      · refine BS_aload_n dX8_knobs_91 rfl ?_
        refine BS_gfi f_X8_427 dX8_knobs_92 ?_
        refine BS_aload_n dX8_knobs_95 rfl ?_
        refine BS_gfr f_X8_373 dX8_knobs_96 ?_
        refine BS_gfr f_X8_355 dX8_knobs_99 ?_
        refine BS_iload_n dX8_knobs_102 rfl ?_
        refine BS_iaload dX8_knobs_103 ?_
        refine BS_icmp_eq (tgt := 110) dX8_knobs_104 (by decide) ?_ ?_
        · refine BS_aload_n dX8_knobs_110 rfl ?_
          refine BS_dup dX8_knobs_111 ?_
          refine BS_gfi f_X8_552 dX8_knobs_112 ?_
          refine BS_iconst dX8_knobs_115 (by decide) ?_
          refine BS_iload dX8_knobs_116 ?_
          refine BS_if_ne (tgt := 126) dX8_knobs_118 (by decide) ?_ ?_
          · refine BS_iload dX8_knobs_126 ?_
            exact bs_X8_knobs_b128
          · refine BS_iload dX8_knobs_121 ?_
            refine BS_goto (tgt := 128) dX8_knobs_123 (by decide) ?_
            exact bs_X8_knobs_b128
        · exact bs_X8_knobs_b107
    · exact bs_X8_knobs_b57
noncomputable def F_X8_knobs_b38 : KK (L_S ⊕ (L_S ⊕ OO)) := op_loop (F_X8_knobs_l38)
theorem bs_X8_knobs_b38 : B_S M_X8_knobs 38 (F_X8_knobs_b38) (z_L (z_L z_O)) (k_L 23 (k_L 9 k_O)) := BS_loop (bs_X8_knobs_l38)
noncomputable def F_X8_knobs_l23 : KK (L_S ⊕ (L_S ⊕ OO)) :=
  op_ild 4 <| op_ald 0 <| op_gfr [25] 101 <| op_gfi [26] 143 <| op_cge (op_exit <| op_iinc 3 1 <| op_back) (op_push (.int 0) <| op_ist 5 <| F_X8_knobs_b38)
theorem bs_X8_knobs_l23 : B_S M_X8_knobs 23 (F_X8_knobs_l23) (z_L (z_L z_O)) (k_L 23 (k_L 9 k_O)) := by
  unfold F_X8_knobs_l23
  refine BS_iload dX8_knobs_23 ?_
  refine BS_aload_n dX8_knobs_25 rfl ?_
  refine BS_gfr f_X8_373 dX8_knobs_26 ?_
  refine BS_gfi f_X8_213 dX8_knobs_29 ?_
  refine BS_icmp_ge (tgt := 148) dX8_knobs_32 (by decide) ?_ ?_
  · refine BS_exit ?_
    refine BS_iinc dX8_knobs_148 (by decide) (Nat.le_of_ble_eq_true rfl) ?_
    refine BS_goto (tgt := 9) dX8_knobs_151 (by decide) ?_
    exact BS_back
  · refine BS_iconst dX8_knobs_35 (by decide) ?_
    refine BS_istore dX8_knobs_36 (Nat.le_of_ble_eq_true rfl) ?_
    exact bs_X8_knobs_b38
noncomputable def F_X8_knobs_b23 : KK (L_S ⊕ OO) := op_loop (F_X8_knobs_l23)
theorem bs_X8_knobs_b23 : B_S M_X8_knobs 23 (F_X8_knobs_b23) (z_L z_O) (k_L 9 k_O) := BS_loop (bs_X8_knobs_l23)
noncomputable def F_X8_knobs_l9 : KK (L_S ⊕ OO) :=
  op_ild 3 <| op_ald 0 <| op_gfr [25] 101 <| op_gfi [26] 142 <| op_cge (op_exit <| op_ild 2 <| op_iret .int) (op_push (.int 0) <| op_ist 4 <| F_X8_knobs_b23)
theorem bs_X8_knobs_l9 : B_S M_X8_knobs 9 (F_X8_knobs_l9) (z_L z_O) (k_L 9 k_O) := by
  unfold F_X8_knobs_l9
  refine BS_iload_n dX8_knobs_9 rfl ?_
  refine BS_aload_n dX8_knobs_10 rfl ?_
  refine BS_gfr f_X8_373 dX8_knobs_11 ?_
  refine BS_gfi f_X8_210 dX8_knobs_14 ?_
  refine BS_icmp_ge (tgt := 154) dX8_knobs_17 (by decide) ?_ ?_
  · refine BS_exit ?_
    refine BS_iload_n dX8_knobs_154 rfl ?_
    exact BS_ireturn dX8_knobs_155 rfl
  · refine BS_iconst dX8_knobs_20 (by decide) ?_
    refine BS_istore dX8_knobs_21 (Nat.le_of_ble_eq_true rfl) ?_
    exact bs_X8_knobs_b23
noncomputable def F_X8_knobs_b9 : KK OO := op_loop (F_X8_knobs_l9)
theorem bs_X8_knobs_b9 : B_S M_X8_knobs 9 (F_X8_knobs_b9) z_O k_O := BS_loop (bs_X8_knobs_l9)
noncomputable def F_X8_knobs_b0 : KK OO :=
  op_push (.int 0) <| op_ist 2 <| op_ald 0 <| op_push (.int 0) <| op_pfi .int [25] 132 <| op_push (.int 0) <| op_ist 3 <| F_X8_knobs_b9
theorem bs_X8_knobs_b0 : B_S M_X8_knobs 0 (F_X8_knobs_b0) z_O k_O := by
  unfold F_X8_knobs_b0
  refine BS_iconst dX8_knobs_0 (by decide) ?_
  refine BS_istore_n dX8_knobs_1 rfl (Nat.le_of_ble_eq_true rfl) ?_
  refine BS_aload_n dX8_knobs_2 rfl ?_
  refine BS_iconst dX8_knobs_3 (by decide) ?_
  refine BS_pfi p_X8_552 (fun h => by cases h) dX8_knobs_4 ?_
  refine BS_iconst dX8_knobs_7 (by decide) ?_
  refine BS_istore_n dX8_knobs_8 rfl (Nat.le_of_ble_eq_true rfl) ?_
  exact bs_X8_knobs_b9
noncomputable def F_X8_knobs : FF := mk_F 7 F_X8_knobs_b0
theorem con_X8_knobs : Con_ yX8_knobs (ws_ yX8_knobs cX8_knobs 7 (some .int)) 5 121 F_X8_knobs := Con_of (by decide +kernel) bs_X8_knobs_b0
/-- LongerHalfModel.knob(I)I -/
abbrev M_X8_knob : MM := (yX8_knob, cX8_knob, (some .int), 6, 147, 2, [])
theorem pd_X8_knob : (yX8_knob.cls ≠ "java/lang/invoke/MethodHandle" ∧ yX8_knob.cls ≠ "java/lang/invoke/VarHandle") ∧ (parseMethodDescriptor yX8_knob.desc).map (fun d => d.parameters.length) = some 1 := ⟨⟨by decide +kernel, by decide +kernel⟩, by decide +kernel⟩
noncomputable def F_X8_knob_b0 : KK OO :=
  op_ald 0 <| op_push (.int 0) <| op_pfi .int [25] 98 <| op_ald 0 <| op_ild 1 <| op_call 2 (f_kd 25 F_X8_isPiece) kx_no <| op_ieq (op_ald 0 <| op_push (.int 1) <| op_call 2 (f_kd 25 F_X8_refused) kx_no <| op_iret .int) (op_ald 0 <| op_ald 0 <| op_ild 1 <| op_call 2 (f_kd 25 F_X8_knobs) kx_no <| op_call 2 (f_kd 25 F_X8_good) kx_no <| op_iret .int)
theorem bs_X8_knob_b0 : B_S M_X8_knob 0 (F_X8_knob_b0) z_O k_O := by
  unfold F_X8_knob_b0
  refine BS_aload_n dX8_knob_0 rfl ?_
  refine BS_iconst dX8_knob_1 (by decide) ?_
  refine BS_pfi p_X8_53 (fun h => by cases h) dX8_knob_2 ?_
  refine BS_aload_n dX8_knob_5 rfl ?_
  refine BS_iload_n dX8_knob_6 rfl ?_
  refine BS_call (run_V dX8_knob_7 con_X8_isPiece (ci := 15) rfl rfl q2367 q2369 qs126 q146 q2370 pd_X8_isPiece ⟨Nat.le_of_ble_eq_true rfl, Nat.le_of_ble_eq_true rfl⟩) BV_no ?_
  refine BS_if_eq (tgt := 25) dX8_knob_10 (by decide) ?_ ?_
  · refine BS_aload_n dX8_knob_25 rfl ?_
    refine BS_iconst dX8_knob_26 (by decide) ?_
    refine BS_call (run_V dX8_knob_27 con_X8_refused (ci := 15) rfl rfl q1749 q1751 qs58 q146 q1752 pd_X8_refused ⟨Nat.le_of_ble_eq_true rfl, Nat.le_of_ble_eq_true rfl⟩) BV_no ?_
    exact BS_ireturn dX8_knob_30 rfl
  · refine BS_aload_n dX8_knob_13 rfl ?_
    refine BS_aload_n dX8_knob_14 rfl ?_
    refine BS_iload_n dX8_knob_15 rfl ?_
    refine BS_call (run_V dX8_knob_16 con_X8_knobs (ci := 15) rfl rfl q2371 q2373 qs127 q146 q2374 pd_X8_knobs ⟨Nat.le_of_ble_eq_true rfl, Nat.le_of_ble_eq_true rfl⟩) BV_no ?_
    refine BS_call (run_V dX8_knob_19 con_X8_good (ci := 15) rfl rfl q2063 q2065 qs86 q146 q2066 pd_X8_good ⟨Nat.le_of_ble_eq_true rfl, Nat.le_of_ble_eq_true rfl⟩) BV_no ?_
    refine BS_goto (tgt := 30) dX8_knob_22 (by decide) ?_
    exact BS_ireturn dX8_knob_30 rfl
noncomputable def F_X8_knob : FF := mk_F 2 F_X8_knob_b0
theorem con_X8_knob : Con_ yX8_knob (ws_ yX8_knob cX8_knob 2 (some .int)) 6 147 F_X8_knob := Con_of (by decide +kernel) bs_X8_knob_b0
/-- LongerHalfModel.owners(I)I -/
abbrev M_X8_owners : MM := (yX8_owners, cX8_owners, (some .int), 6, 147, 2, [])
theorem pd_X8_owners : (yX8_owners.cls ≠ "java/lang/invoke/MethodHandle" ∧ yX8_owners.cls ≠ "java/lang/invoke/VarHandle") ∧ (parseMethodDescriptor yX8_owners.desc).map (fun d => d.parameters.length) = some 1 := ⟨⟨by decide +kernel, by decide +kernel⟩, by decide +kernel⟩
noncomputable def F_X8_owners_b0 : KK OO :=
  op_ald 0 <| op_push (.int 0) <| op_pfi .int [25] 98 <| op_ald 0 <| op_ild 1 <| op_call 2 (f_kd 25 F_X8_isPiece) kx_no <| op_ine (op_ald 0 <| op_ild 1 <| op_call 2 (f_kd 25 F_X8_knobs) kx_no <| op_pop <| op_ald 0 <| op_ald 0 <| op_gfi [25] 132 <| op_call 2 (f_kd 25 F_X8_good) kx_no <| op_iret .int) (op_ald 0 <| op_push (.int 1) <| op_call 2 (f_kd 25 F_X8_refused) kx_no <| op_iret .int)
theorem bs_X8_owners_b0 : B_S M_X8_owners 0 (F_X8_owners_b0) z_O k_O := by
  unfold F_X8_owners_b0
  refine BS_aload_n dX8_owners_0 rfl ?_
  refine BS_iconst dX8_owners_1 (by decide) ?_
  refine BS_pfi p_X8_53 (fun h => by cases h) dX8_owners_2 ?_
  refine BS_aload_n dX8_owners_5 rfl ?_
  refine BS_iload_n dX8_owners_6 rfl ?_
  refine BS_call (run_V dX8_owners_7 con_X8_isPiece (ci := 15) rfl rfl q2367 q2369 qs126 q146 q2370 pd_X8_isPiece ⟨Nat.le_of_ble_eq_true rfl, Nat.le_of_ble_eq_true rfl⟩) BV_no ?_
  refine BS_if_ne (tgt := 19) dX8_owners_10 (by decide) ?_ ?_
  · refine BS_aload_n dX8_owners_19 rfl ?_
    refine BS_iload_n dX8_owners_20 rfl ?_
    refine BS_call (run_V dX8_owners_21 con_X8_knobs (ci := 15) rfl rfl q2371 q2373 qs127 q146 q2374 pd_X8_knobs ⟨Nat.le_of_ble_eq_true rfl, Nat.le_of_ble_eq_true rfl⟩) BV_no ?_
    refine BS_pop dX8_owners_24 ?_
    refine BS_aload_n dX8_owners_25 rfl ?_
    refine BS_aload_n dX8_owners_26 rfl ?_
    refine BS_gfi f_X8_552 dX8_owners_27 ?_
    refine BS_call (run_V dX8_owners_30 con_X8_good (ci := 15) rfl rfl q2063 q2065 qs86 q146 q2066 pd_X8_good ⟨Nat.le_of_ble_eq_true rfl, Nat.le_of_ble_eq_true rfl⟩) BV_no ?_
    exact BS_ireturn dX8_owners_33 rfl
  · refine BS_aload_n dX8_owners_13 rfl ?_
    refine BS_iconst dX8_owners_14 (by decide) ?_
    refine BS_call (run_V dX8_owners_15 con_X8_refused (ci := 15) rfl rfl q1749 q1751 qs58 q146 q1752 pd_X8_refused ⟨Nat.le_of_ble_eq_true rfl, Nat.le_of_ble_eq_true rfl⟩) BV_no ?_
    exact BS_ireturn dX8_owners_18 rfl
noncomputable def F_X8_owners : FF := mk_F 2 F_X8_owners_b0
theorem con_X8_owners : Con_ yX8_owners (ws_ yX8_owners cX8_owners 2 (some .int)) 6 147 F_X8_owners := Con_of (by decide +kernel) bs_X8_owners_b0
/-- LongerHalfModel.refusesYear(ZII)I -/
abbrev M_X8_refusesYear : MM := (yX8_refusesYear, cX8_refusesYear, (some .int), 1, 22, 4, [])
theorem pd_X8_refusesYear : (yX8_refusesYear.cls ≠ "java/lang/invoke/MethodHandle" ∧ yX8_refusesYear.cls ≠ "java/lang/invoke/VarHandle") ∧ (parseMethodDescriptor yX8_refusesYear.desc).map (fun d => d.parameters.length) = some 3 := ⟨⟨by decide +kernel, by decide +kernel⟩, by decide +kernel⟩
noncomputable def F_X8_refusesYear_b0 : KK OO :=
  op_ild 1 <| op_ine (op_ild 2 <| op_push (.int 0) <| op_push (.int 65536) <| op_call 3 F_X8_in kx_no <| op_ieq (op_push (.int 2) <| op_iret .int) (op_ild 3 <| op_push (.int 0) <| op_push (.int 200) <| op_call 3 F_X8_in kx_no <| op_ieq (op_push (.int 2) <| op_iret .int) (op_push (.int 0) <| op_iret .int))) (op_push (.int 1) <| op_iret .int)
theorem bs_X8_refusesYear_b0 : B_S M_X8_refusesYear 0 (F_X8_refusesYear_b0) z_O k_O := by
  unfold F_X8_refusesYear_b0
  refine BS_iload_n dX8_refusesYear_0 rfl ?_
  refine BS_if_ne (tgt := 8) dX8_refusesYear_1 (by decide) ?_ ?_
  · refine BS_iload_n dX8_refusesYear_8 rfl ?_
    refine BS_iconst dX8_refusesYear_9 (by decide) ?_
    refine BS_ldcw dX8_refusesYear_10 q2387 ?_
    refine BS_call (run_S dX8_refusesYear_13 con_X8_in q1965 q1966 q146 q1967 pd_X8_in ⟨Nat.le_of_ble_eq_true rfl, Nat.le_of_ble_eq_true rfl⟩) BV_no ?_
    refine BS_if_eq (tgt := 34) dX8_refusesYear_16 (by decide) ?_ ?_
    · refine BS_iconst dX8_refusesYear_34 (by decide) ?_
      exact BS_ireturn dX8_refusesYear_35 rfl
    · refine BS_iload_n dX8_refusesYear_19 rfl ?_
      refine BS_iconst dX8_refusesYear_20 (by decide) ?_
      refine BS_sipush dX8_refusesYear_21 (by decide) ?_
      refine BS_call (run_S dX8_refusesYear_24 con_X8_in q1965 q1966 q146 q1967 pd_X8_in ⟨Nat.le_of_ble_eq_true rfl, Nat.le_of_ble_eq_true rfl⟩) BV_no ?_
      refine BS_if_eq (tgt := 34) dX8_refusesYear_27 (by decide) ?_ ?_
      · refine BS_iconst dX8_refusesYear_34 (by decide) ?_
        exact BS_ireturn dX8_refusesYear_35 rfl
      · refine BS_iconst dX8_refusesYear_30 (by decide) ?_
        refine BS_goto (tgt := 35) dX8_refusesYear_31 (by decide) ?_
        exact BS_ireturn dX8_refusesYear_35 rfl
  · refine BS_iconst dX8_refusesYear_4 (by decide) ?_
    refine BS_goto (tgt := 35) dX8_refusesYear_5 (by decide) ?_
    exact BS_ireturn dX8_refusesYear_35 rfl
noncomputable def F_X8_refusesYear : FF := mk_F 4 F_X8_refusesYear_b0
theorem con_X8_refusesYear : Con_ yX8_refusesYear (ws_ yX8_refusesYear cX8_refusesYear 4 (some .int)) 1 22 F_X8_refusesYear := Con_of (by decide +kernel) bs_X8_refusesYear_b0
/-- LongerHalfModel.drawn(I)I -/
abbrev M_X8_drawn : MM := (yX8_drawn, cX8_drawn, (some .int), 0, 0, 2, [])
theorem pd_X8_drawn : (yX8_drawn.cls ≠ "java/lang/invoke/MethodHandle" ∧ yX8_drawn.cls ≠ "java/lang/invoke/VarHandle") ∧ (parseMethodDescriptor yX8_drawn.desc).map (fun d => d.parameters.length) = some 1 := ⟨⟨by decide +kernel, by decide +kernel⟩, by decide +kernel⟩
noncomputable def F_X8_drawn_b0 : KK OO :=
  op_ald 0 <| op_push (.long 75) <| op_ald 0 <| op_gfi [25] 133 <| op_i2l <| op_l2 (fun x y => x * y) <| op_push (.long 74) <| op_l2 (fun x y => x + y) <| op_push (.long 65537) <| op_l2d (fun x y => x - x / y * y) <| op_l2i <| op_pfi .int [25] 133 <| op_ald 0 <| op_gfi [25] 133 <| op_ild 1 <| op_i2d (fun x y => x - x / y * y) <| op_iret .int
theorem bs_X8_drawn_b0 : B_S M_X8_drawn 0 (F_X8_drawn_b0) z_O k_O := by
  unfold F_X8_drawn_b0
  refine BS_aload_n dX8_drawn_0 rfl ?_
  refine BS_ldc2 dX8_drawn_1 q2396 ?_
  refine BS_aload_n dX8_drawn_4 rfl ?_
  refine BS_gfi f_X8_563 dX8_drawn_5 ?_
  refine BS_i2l dX8_drawn_8 ?_
  refine BS_lmul dX8_drawn_9 ?_
  refine BS_ldc2 dX8_drawn_10 q2397 ?_
  refine BS_ladd dX8_drawn_13 ?_
  refine BS_ldc2 dX8_drawn_14 q2398 ?_
  refine BS_lrem dX8_drawn_17 ?_
  refine BS_l2i dX8_drawn_18 ?_
  refine BS_pfi p_X8_563 (fun h => by cases h) dX8_drawn_19 ?_
  refine BS_aload_n dX8_drawn_22 rfl ?_
  refine BS_gfi f_X8_563 dX8_drawn_23 ?_
  refine BS_iload_n dX8_drawn_26 rfl ?_
  refine BS_irem dX8_drawn_27 ?_
  exact BS_ireturn dX8_drawn_28 rfl
noncomputable def F_X8_drawn : FF := mk_F 2 F_X8_drawn_b0
theorem con_X8_drawn : Con_ yX8_drawn (ws_ yX8_drawn cX8_drawn 2 (some .int)) 0 0 F_X8_drawn := Con_of (by decide +kernel) bs_X8_drawn_b0
/-- LongerHalfModel.flawsByDraws()V -/
abbrev M_X8_flawsByDraws : MM := (yX8_flawsByDraws, cX8_flawsByDraws, none, 2, 43, 1, [])
theorem pd_X8_flawsByDraws : (yX8_flawsByDraws.cls ≠ "java/lang/invoke/MethodHandle" ∧ yX8_flawsByDraws.cls ≠ "java/lang/invoke/VarHandle") ∧ (parseMethodDescriptor yX8_flawsByDraws.desc).map (fun d => d.parameters.length) = some 0 := ⟨⟨by decide +kernel, by decide +kernel⟩, by decide +kernel⟩
noncomputable def F_X8_flawsByDraws_b0 : KK OO :=
  op_ald 0 <| op_push (.int (-1)) <| op_pfi .int [25] 121 <| op_ald 0 <| op_push (.int 100) <| op_call 2 (f_kd 25 F_X8_drawn) kx_no <| op_ald 0 <| op_gfr [25] 101 <| op_gfi [26] 141 <| op_cge (op_vret) (op_ald 0 <| op_ald 0 <| op_ald 0 <| op_call 1 (f_kd 25 F_X8_allPlaces) kx_no <| op_call 2 (f_kd 25 F_X8_drawn) kx_no <| op_call 2 (f_kd 25 F_X8_flaws) kx_no <| op_vret)
theorem bs_X8_flawsByDraws_b0 : B_S M_X8_flawsByDraws 0 (F_X8_flawsByDraws_b0) z_O k_O := by
  unfold F_X8_flawsByDraws_b0
  refine BS_aload_n dX8_flawsByDraws_0 rfl ?_
  refine BS_iconst dX8_flawsByDraws_1 (by decide) ?_
  refine BS_pfi p_X8_389 (fun h => by cases h) dX8_flawsByDraws_2 ?_
  refine BS_aload_n dX8_flawsByDraws_5 rfl ?_
  refine BS_bipush dX8_flawsByDraws_6 (by decide) ?_
  refine BS_call (run_V dX8_flawsByDraws_8 con_X8_drawn (ci := 15) rfl rfl q2392 q2394 qs130 q146 q2395 pd_X8_drawn ⟨Nat.le_of_ble_eq_true rfl, Nat.le_of_ble_eq_true rfl⟩) BV_no ?_
  refine BS_aload_n dX8_flawsByDraws_11 rfl ?_
  refine BS_gfr f_X8_373 dX8_flawsByDraws_12 ?_
  refine BS_gfi f_X8_258 dX8_flawsByDraws_15 ?_
  refine BS_icmp_ge (tgt := 33) dX8_flawsByDraws_18 (by decide) ?_ ?_
  · exact BS_return dX8_flawsByDraws_33 rfl
  · refine BS_aload_n dX8_flawsByDraws_21 rfl ?_
    refine BS_aload_n dX8_flawsByDraws_22 rfl ?_
    refine BS_aload_n dX8_flawsByDraws_23 rfl ?_
    refine BS_call (run_V dX8_flawsByDraws_24 con_X8_allPlaces (ci := 15) rfl rfl q2180 q2182 qs102 q146 q2183 pd_X8_allPlaces ⟨Nat.le_of_ble_eq_true rfl, Nat.le_of_ble_eq_true rfl⟩) BV_no ?_
    refine BS_call (run_V dX8_flawsByDraws_27 con_X8_drawn (ci := 15) rfl rfl q2392 q2394 qs130 q146 q2395 pd_X8_drawn ⟨Nat.le_of_ble_eq_true rfl, Nat.le_of_ble_eq_true rfl⟩) BV_no ?_
    refine BS_call (run_V dX8_flawsByDraws_30 con_X8_flaws (ci := 15) rfl rfl q2185 q2187 qs103 q146 q2188 pd_X8_flaws ⟨Nat.le_of_ble_eq_true rfl, Nat.le_of_ble_eq_true rfl⟩) BV_no ?_
    exact BS_return dX8_flawsByDraws_33 rfl
noncomputable def F_X8_flawsByDraws : FF := mk_F 1 F_X8_flawsByDraws_b0
theorem con_X8_flawsByDraws : Con_ yX8_flawsByDraws (ws_ yX8_flawsByDraws cX8_flawsByDraws 1 none) 2 43 F_X8_flawsByDraws := Con_of (by decide +kernel) bs_X8_flawsByDraws_b0
/-- LongerHalfModel.year(II)V -/
abbrev M_X8_year : MM := (yX8_year, cX8_year, none, 5, 121, 8, [])
theorem pd_X8_year : (yX8_year.cls ≠ "java/lang/invoke/MethodHandle" ∧ yX8_year.cls ≠ "java/lang/invoke/VarHandle") ∧ (parseMethodDescriptor yX8_year.desc).map (fun d => d.parameters.length) = some 2 := ⟨⟨by decide +kernel, by decide +kernel⟩, by decide +kernel⟩
noncomputable def F_X8_year_b157 : KK (L_S ⊕ OO) :=
  op_i2 (fun x y => x + y) <| op_pfi .int [25] 136 <| op_ild 7 <| op_ine (op_ild 7 <| op_push (.int 1) <| op_cne (op_iinc 3 1 <| op_back) (op_ald 0 <| op_gfr [25] 134 <| op_ild 6 <| op_dup2 <| op_iald 1 <| op_push (.int 1) <| op_i2 (fun x y => x + y) <| op_iast 1 .int <| op_iinc 3 1 <| op_back)) (op_ald 0 <| op_gfr [25] 134 <| op_ild 5 <| op_dup2 <| op_iald 1 <| op_push (.int 1) <| op_i2 (fun x y => x + y) <| op_iast 1 .int <| op_iinc 3 1 <| op_back)
theorem bs_X8_year_b157 : B_S M_X8_year 157 (F_X8_year_b157) (z_L z_O) (k_L 38 k_O) := by
  unfold F_X8_year_b157
  refine BS_iadd dX8_year_157 ?_
  refine BS_pfi p_X8_576 (fun h => by cases h) dX8_year_158 ?_
  refine BS_iload dX8_year_161 ?_
  refine BS_if_ne (tgt := 180) dX8_year_163 (by decide) ?_ ?_
  · refine BS_iload dX8_year_180 ?_
    refine BS_iconst dX8_year_182 (by decide) ?_
    refine BS_icmp_ne (tgt := 197) dX8_year_183 (by decide) ?_ ?_
    · refine BS_iinc dX8_year_197 (by decide) (Nat.le_of_ble_eq_true rfl) ?_
      refine BS_goto (tgt := 38) dX8_year_200 (by decide) ?_
      exact BS_back
    · refine BS_aload_n dX8_year_186 rfl ?_
      refine BS_gfr f_X8_50 dX8_year_187 ?_
      refine BS_iload dX8_year_190 ?_
      refine BS_dup2 dX8_year_192 ?_
      refine BS_iaload dX8_year_193 ?_
      refine BS_iconst dX8_year_194 (by decide) ?_
      refine BS_iadd dX8_year_195 ?_
      refine BS_iastore dX8_year_196 ?_
      refine BS_iinc dX8_year_197 (by decide) (Nat.le_of_ble_eq_true rfl) ?_
      refine BS_goto (tgt := 38) dX8_year_200 (by decide) ?_
      exact BS_back
  · refine BS_aload_n dX8_year_166 rfl ?_
    refine BS_gfr f_X8_50 dX8_year_167 ?_
    refine BS_iload dX8_year_170 ?_
    refine BS_dup2 dX8_year_172 ?_
    refine BS_iaload dX8_year_173 ?_
    refine BS_iconst dX8_year_174 (by decide) ?_
    refine BS_iadd dX8_year_175 ?_
    refine BS_iastore dX8_year_176 ?_
    refine BS_goto (tgt := 197) dX8_year_177 (by decide) ?_
    refine BS_iinc dX8_year_197 (by decide) (Nat.le_of_ble_eq_true rfl) ?_
    refine BS_goto (tgt := 38) dX8_year_200 (by decide) ?_
    exact BS_back
noncomputable def F_X8_year_b137 : KK (L_S ⊕ OO) :=
  op_i2 (fun x y => x + y) <| op_pfi .int [25] 135 <| op_ald 0 <| op_dup <| op_gfi [25] 136 <| op_ild 7 <| op_push (.int 3) <| op_cne (op_push (.int 0) <| F_X8_year_b157) (op_push (.int 1) <| F_X8_year_b157)
theorem bs_X8_year_b137 : B_S M_X8_year 137 (F_X8_year_b137) (z_L z_O) (k_L 38 k_O) := by
  unfold F_X8_year_b137
  refine BS_iadd dX8_year_137 ?_
  refine BS_pfi p_X8_573 (fun h => by cases h) dX8_year_138 ?_
  refine BS_aload_n dX8_year_141 rfl ?_
  refine BS_dup dX8_year_142 ?_
  refine BS_gfi f_X8_576 dX8_year_143 ?_
  refine BS_iload dX8_year_146 ?_
  refine BS_iconst dX8_year_148 (by decide) ?_
  refine BS_icmp_ne (tgt := 156) dX8_year_149 (by decide) ?_ ?_
  · refine BS_iconst dX8_year_156 (by decide) ?_
    exact bs_X8_year_b157
  · refine BS_iconst dX8_year_152 (by decide) ?_
    refine BS_goto (tgt := 157) dX8_year_153 (by decide) ?_
    exact bs_X8_year_b157
noncomputable def F_X8_year_b98 : KK (L_S ⊕ OO) :=
  op_i2 (fun x y => x + y) <| op_ist 6 <| op_ald 0 <| op_ild 4 <| op_ild 5 <| op_ild 6 <| op_call 4 (f_kd 25 F_X8_laysTold) kx_no <| op_ald 0 <| op_call 1 (f_kd 25 F_X8_flawsByDraws) kx_no <| op_ald 0 <| op_call 1 (f_kd 25 F_X8_comes) kx_no <| op_ist 7 <| op_ald 0 <| op_dup <| op_gfi [25] 135 <| op_ild 7 <| op_push (.int 2) <| op_cne (op_push (.int 0) <| F_X8_year_b137) (op_push (.int 1) <| F_X8_year_b137)
theorem bs_X8_year_b98 : B_S M_X8_year 98 (F_X8_year_b98) (z_L z_O) (k_L 38 k_O) := by
  unfold F_X8_year_b98
  refine BS_iadd dX8_year_98 ?_
  refine BS_istore dX8_year_99 (Nat.le_of_ble_eq_true rfl) ?_
  refine BS_aload_n dX8_year_101 rfl ?_
  refine BS_iload dX8_year_102 ?_
  refine BS_iload dX8_year_104 ?_
  refine BS_iload dX8_year_106 ?_
  refine BS_call (run_V dX8_year_108 con_X8_laysTold (ci := 15) rfl rfl q2239 q2241 qs110 q146 q2242 pd_X8_laysTold ⟨Nat.le_of_ble_eq_true rfl, Nat.le_of_ble_eq_true rfl⟩) BV_no ?_
  refine BS_aload_n dX8_year_111 rfl ?_
  refine BS_call (run_V dX8_year_112 con_X8_flawsByDraws (ci := 15) rfl rfl q2399 q2401 qs131 q146 q2402 pd_X8_flawsByDraws ⟨Nat.le_of_ble_eq_true rfl, Nat.le_of_ble_eq_true rfl⟩) BV_no ?_
  refine BS_aload_n dX8_year_115 rfl ?_
  refine BS_call (run_V dX8_year_116 con_X8_comes (ci := 15) rfl rfl q2151 q2153 qs98 q146 q2154 pd_X8_comes ⟨Nat.le_of_ble_eq_true rfl, Nat.le_of_ble_eq_true rfl⟩) BV_no ?_
  refine BS_istore dX8_year_119 (Nat.le_of_ble_eq_true rfl) ?_
  refine BS_aload_n dX8_year_121 rfl ?_
  refine BS_dup dX8_year_122 ?_
  refine BS_gfi f_X8_573 dX8_year_123 ?_
  refine BS_iload dX8_year_126 ?_
  refine BS_iconst dX8_year_128 (by decide) ?_
  refine BS_icmp_ne (tgt := 136) dX8_year_129 (by decide) ?_ ?_
  · refine BS_iconst dX8_year_136 (by decide) ?_
    exact bs_X8_year_b137
  · refine BS_iconst dX8_year_132 (by decide) ?_
    refine BS_goto (tgt := 137) dX8_year_133 (by decide) ?_
    exact bs_X8_year_b137
noncomputable def F_X8_year_l38 : KK (L_S ⊕ OO) :=
  op_ild 3 <| op_ild 2 <| op_cge (op_exit <| op_vret) (op_ald 0 <| op_ald 0 <| op_gfr [25] 101 <| op_gfi [26] 142 <| op_call 2 (f_kd 25 F_X8_drawn) kx_no <| op_ist 4 <| op_ald 0 <| op_ald 0 <| op_gfr [25] 101 <| op_gfi [26] 143 <| op_call 2 (f_kd 25 F_X8_drawn) kx_no <| op_ist 5 <| op_ald 0 <| op_ald 0 <| op_gfr [25] 101 <| op_gfi [26] 143 <| op_push (.int 1) <| op_i2 (fun x y => x - y) <| op_call 2 (f_kd 25 F_X8_drawn) kx_no <| op_ist 6 <| op_ild 6 <| op_ild 6 <| op_ild 5 <| op_clt (op_push (.int 0) <| F_X8_year_b98) (op_push (.int 1) <| F_X8_year_b98))
theorem bs_X8_year_l38 : B_S M_X8_year 38 (F_X8_year_l38) (z_L z_O) (k_L 38 k_O) := by
  unfold F_X8_year_l38
  refine BS_iload_n dX8_year_38 rfl ?_
  refine BS_iload_n dX8_year_39 rfl ?_
  refine BS_icmp_ge (tgt := 203) dX8_year_40 (by decide) ?_ ?_
  · refine BS_exit ?_
    exact BS_return dX8_year_203 rfl
  · refine BS_aload_n dX8_year_43 rfl ?_
    refine BS_aload_n dX8_year_44 rfl ?_
    refine BS_gfr f_X8_373 dX8_year_45 ?_
    refine BS_gfi f_X8_210 dX8_year_48 ?_
    refine BS_call (run_V dX8_year_51 con_X8_drawn (ci := 15) rfl rfl q2392 q2394 qs130 q146 q2395 pd_X8_drawn ⟨Nat.le_of_ble_eq_true rfl, Nat.le_of_ble_eq_true rfl⟩) BV_no ?_
    refine BS_istore dX8_year_54 (Nat.le_of_ble_eq_true rfl) ?_
    refine BS_aload_n dX8_year_56 rfl ?_
    refine BS_aload_n dX8_year_57 rfl ?_
    refine BS_gfr f_X8_373 dX8_year_58 ?_
    refine BS_gfi f_X8_213 dX8_year_61 ?_
    refine BS_call (run_V dX8_year_64 con_X8_drawn (ci := 15) rfl rfl q2392 q2394 qs130 q146 q2395 pd_X8_drawn ⟨Nat.le_of_ble_eq_true rfl, Nat.le_of_ble_eq_true rfl⟩) BV_no ?_
    refine BS_istore dX8_year_67 (Nat.le_of_ble_eq_true rfl) ?_
    refine BS_aload_n dX8_year_69 rfl ?_
    refine BS_aload_n dX8_year_70 rfl ?_
    refine BS_gfr f_X8_373 dX8_year_71 ?_
    refine BS_gfi f_X8_213 dX8_year_74 ?_
    refine BS_iconst dX8_year_77 (by decide) ?_
    refine BS_isub dX8_year_78 ?_
    refine BS_call (run_V dX8_year_79 con_X8_drawn (ci := 15) rfl rfl q2392 q2394 qs130 q146 q2395 pd_X8_drawn ⟨Nat.le_of_ble_eq_true rfl, Nat.le_of_ble_eq_true rfl⟩) BV_no ?_
    refine BS_istore dX8_year_82 (Nat.le_of_ble_eq_true rfl) ?_
    refine BS_iload dX8_year_84 ?_
    refine BS_iload dX8_year_86 ?_
    refine BS_iload dX8_year_88 ?_
    refine BS_icmp_lt (tgt := 97) dX8_year_90 (by decide) ?_ ?_
    · refine BS_iconst dX8_year_97 (by decide) ?_
      exact bs_X8_year_b98
    · refine BS_iconst dX8_year_93 (by decide) ?_
      refine BS_goto (tgt := 98) dX8_year_94 (by decide) ?_
      exact bs_X8_year_b98
noncomputable def F_X8_year_b38 : KK OO := op_loop (F_X8_year_l38)
theorem bs_X8_year_b38 : B_S M_X8_year 38 (F_X8_year_b38) z_O k_O := BS_loop (bs_X8_year_l38)
noncomputable def F_X8_year_l17 : KK (L_S ⊕ OO) :=
  op_ild 3 <| op_push (.int 6) <| op_cge (op_exit <| op_push (.int 0) <| op_ist 3 <| F_X8_year_b38) (op_ald 0 <| op_gfr [25] 134 <| op_ild 3 <| op_push (.int 0) <| op_iast 1 .int <| op_iinc 3 1 <| op_back)
theorem bs_X8_year_l17 : B_S M_X8_year 17 (F_X8_year_l17) (z_L z_O) (k_L 17 k_O) := by
  unfold F_X8_year_l17
  refine BS_iload_n dX8_year_17 rfl ?_
  refine BS_bipush dX8_year_18 (by decide) ?_
  refine BS_icmp_ge (tgt := 36) dX8_year_20 (by decide) ?_ ?_
  · refine BS_exit ?_
    refine BS_iconst dX8_year_36 (by decide) ?_
    refine BS_istore_n dX8_year_37 rfl (Nat.le_of_ble_eq_true rfl) ?_
    exact bs_X8_year_b38
  · refine BS_aload_n dX8_year_23 rfl ?_
    refine BS_gfr f_X8_50 dX8_year_24 ?_
    refine BS_iload_n dX8_year_27 rfl ?_
    refine BS_iconst dX8_year_28 (by decide) ?_
    refine BS_iastore dX8_year_29 ?_
    refine BS_iinc dX8_year_30 (by decide) (Nat.le_of_ble_eq_true rfl) ?_
    refine BS_goto (tgt := 17) dX8_year_33 (by decide) ?_
    exact BS_back
noncomputable def F_X8_year_b17 : KK OO := op_loop (F_X8_year_l17)
theorem bs_X8_year_b17 : B_S M_X8_year 17 (F_X8_year_b17) z_O k_O := BS_loop (bs_X8_year_l17)
noncomputable def F_X8_year_b0 : KK OO :=
  op_ald 0 <| op_ild 1 <| op_pfi .int [25] 133 <| op_ald 0 <| op_push (.int 0) <| op_pfi .int [25] 135 <| op_ald 0 <| op_push (.int 0) <| op_pfi .int [25] 136 <| op_push (.int 0) <| op_ist 3 <| F_X8_year_b17
theorem bs_X8_year_b0 : B_S M_X8_year 0 (F_X8_year_b0) z_O k_O := by
  unfold F_X8_year_b0
  refine BS_aload_n dX8_year_0 rfl ?_
  refine BS_iload_n dX8_year_1 rfl ?_
  refine BS_pfi p_X8_563 (fun h => by cases h) dX8_year_2 ?_
  refine BS_aload_n dX8_year_5 rfl ?_
  refine BS_iconst dX8_year_6 (by decide) ?_
  refine BS_pfi p_X8_573 (fun h => by cases h) dX8_year_7 ?_
  refine BS_aload_n dX8_year_10 rfl ?_
  refine BS_iconst dX8_year_11 (by decide) ?_
  refine BS_pfi p_X8_576 (fun h => by cases h) dX8_year_12 ?_
  refine BS_iconst dX8_year_15 (by decide) ?_
  refine BS_istore_n dX8_year_16 rfl (Nat.le_of_ble_eq_true rfl) ?_
  exact bs_X8_year_b17
noncomputable def F_X8_year : FF := mk_F 8 F_X8_year_b0
theorem con_X8_year : Con_ yX8_year (ws_ yX8_year cX8_year 8 none) 5 121 F_X8_year := Con_of (by decide +kernel) bs_X8_year_b0
/-- LongerHalfModel.wins(III)I -/
abbrev M_X8_wins : MM := (yX8_wins, cX8_wins, (some .int), 6, 148, 5, [])
theorem pd_X8_wins : (yX8_wins.cls ≠ "java/lang/invoke/MethodHandle" ∧ yX8_wins.cls ≠ "java/lang/invoke/VarHandle") ∧ (parseMethodDescriptor yX8_wins.desc).map (fun d => d.parameters.length) = some 3 := ⟨⟨by decide +kernel, by decide +kernel⟩, by decide +kernel⟩
noncomputable def F_X8_wins_b0 : KK OO :=
  op_ald 0 <| op_push (.int 0) <| op_pfi .int [25] 98 <| op_ald 0 <| op_ald 0 <| op_ild 1 <| op_call 2 (f_kd 25 F_X8_isPerson) kx_no <| op_ild 2 <| op_ild 3 <| op_call 4 (f_kd 25 F_X8_refusesYear) kx_no <| op_ist 4 <| op_ild 4 <| op_ile (op_ald 0 <| op_ild 2 <| op_ild 3 <| op_call 3 (f_kd 25 F_X8_year) kx_no <| op_ald 0 <| op_ald 0 <| op_gfr [25] 134 <| op_ild 1 <| op_iald 1 <| op_call 2 (f_kd 25 F_X8_good) kx_no <| op_iret .int) (op_ald 0 <| op_ild 4 <| op_call 2 (f_kd 25 F_X8_refused) kx_no <| op_iret .int)
theorem bs_X8_wins_b0 : B_S M_X8_wins 0 (F_X8_wins_b0) z_O k_O := by
  unfold F_X8_wins_b0
  refine BS_aload_n dX8_wins_0 rfl ?_
  refine BS_iconst dX8_wins_1 (by decide) ?_
  refine BS_pfi p_X8_53 (fun h => by cases h) dX8_wins_2 ?_
  refine BS_aload_n dX8_wins_5 rfl ?_
  refine BS_aload_n dX8_wins_6 rfl ?_
  refine BS_iload_n dX8_wins_7 rfl ?_
  refine BS_call (run_V dX8_wins_8 con_X8_isPerson (ci := 15) rfl rfl q2103 q2105 qs89 q146 q2106 pd_X8_isPerson ⟨Nat.le_of_ble_eq_true rfl, Nat.le_of_ble_eq_true rfl⟩) BV_no ?_
  refine BS_iload_n dX8_wins_11 rfl ?_
  refine BS_iload_n dX8_wins_12 rfl ?_
  refine BS_call (run_V dX8_wins_13 con_X8_refusesYear (ci := 15) rfl rfl q2383 q2385 qs128 q146 q2386 pd_X8_refusesYear ⟨Nat.le_of_ble_eq_true rfl, Nat.le_of_ble_eq_true rfl⟩) BV_no ?_
  refine BS_istore dX8_wins_16 (Nat.le_of_ble_eq_true rfl) ?_
  refine BS_iload dX8_wins_18 ?_
  refine BS_if_le (tgt := 30) dX8_wins_20 (by decide) ?_ ?_
  · refine BS_aload_n dX8_wins_30 rfl ?_
    refine BS_iload_n dX8_wins_31 rfl ?_
    refine BS_iload_n dX8_wins_32 rfl ?_
    refine BS_call (run_V dX8_wins_33 con_X8_year (ci := 15) rfl rfl q2388 q2390 qs129 q146 q2391 pd_X8_year ⟨Nat.le_of_ble_eq_true rfl, Nat.le_of_ble_eq_true rfl⟩) BV_no ?_
    refine BS_aload_n dX8_wins_36 rfl ?_
    refine BS_aload_n dX8_wins_37 rfl ?_
    refine BS_gfr f_X8_50 dX8_wins_38 ?_
    refine BS_iload_n dX8_wins_41 rfl ?_
    refine BS_iaload dX8_wins_42 ?_
    refine BS_call (run_V dX8_wins_43 con_X8_good (ci := 15) rfl rfl q2063 q2065 qs86 q146 q2066 pd_X8_good ⟨Nat.le_of_ble_eq_true rfl, Nat.le_of_ble_eq_true rfl⟩) BV_no ?_
    exact BS_ireturn dX8_wins_46 rfl
  · refine BS_aload_n dX8_wins_23 rfl ?_
    refine BS_iload dX8_wins_24 ?_
    refine BS_call (run_V dX8_wins_26 con_X8_refused (ci := 15) rfl rfl q1749 q1751 qs58 q146 q1752 pd_X8_refused ⟨Nat.le_of_ble_eq_true rfl, Nat.le_of_ble_eq_true rfl⟩) BV_no ?_
    exact BS_ireturn dX8_wins_29 rfl
noncomputable def F_X8_wins : FF := mk_F 5 F_X8_wins_b0
theorem con_X8_wins : Con_ yX8_wins (ws_ yX8_wins cX8_wins 5 (some .int)) 6 148 F_X8_wins := Con_of (by decide +kernel) bs_X8_wins_b0
/-- LongerHalfModel.spoilt(IIZ)I -/
abbrev M_X8_spoilt : MM := (yX8_spoilt, cX8_spoilt, (some .int), 6, 148, 5, [])
theorem pd_X8_spoilt : (yX8_spoilt.cls ≠ "java/lang/invoke/MethodHandle" ∧ yX8_spoilt.cls ≠ "java/lang/invoke/VarHandle") ∧ (parseMethodDescriptor yX8_spoilt.desc).map (fun d => d.parameters.length) = some 3 := ⟨⟨by decide +kernel, by decide +kernel⟩, by decide +kernel⟩
noncomputable def F_X8_spoilt_b59 : KK OO :=
  op_call 2 (f_kd 25 F_X8_good) kx_no <| op_iret .int
theorem bs_X8_spoilt_b59 : B_S M_X8_spoilt 59 (F_X8_spoilt_b59) z_O k_O := by
  unfold F_X8_spoilt_b59
  refine BS_call (run_V dX8_spoilt_59 con_X8_good (ci := 15) rfl rfl q2063 q2065 qs86 q146 q2066 pd_X8_good ⟨Nat.le_of_ble_eq_true rfl, Nat.le_of_ble_eq_true rfl⟩) BV_no ?_
  exact BS_ireturn dX8_spoilt_62 rfl
noncomputable def F_X8_spoilt_b18 : KK OO :=
  op_ild 1 <| op_ild 2 <| op_call 4 (f_kd 25 F_X8_refusesYear) kx_no <| op_ist 4 <| op_ild 4 <| op_ile (op_ald 0 <| op_ild 1 <| op_ild 2 <| op_call 3 (f_kd 25 F_X8_year) kx_no <| op_ald 0 <| op_ild 3 <| op_ieq (op_ald 0 <| op_gfi [25] 135 <| F_X8_spoilt_b59) (op_ald 0 <| op_gfi [25] 136 <| F_X8_spoilt_b59)) (op_ald 0 <| op_ild 4 <| op_call 2 (f_kd 25 F_X8_refused) kx_no <| op_iret .int)
theorem bs_X8_spoilt_b18 : B_S M_X8_spoilt 18 (F_X8_spoilt_b18) z_O k_O := by
  unfold F_X8_spoilt_b18
  refine BS_iload_n dX8_spoilt_18 rfl ?_
  refine BS_iload_n dX8_spoilt_19 rfl ?_
  refine BS_call (run_V dX8_spoilt_20 con_X8_refusesYear (ci := 15) rfl rfl q2383 q2385 qs128 q146 q2386 pd_X8_refusesYear ⟨Nat.le_of_ble_eq_true rfl, Nat.le_of_ble_eq_true rfl⟩) BV_no ?_
  refine BS_istore dX8_spoilt_23 (Nat.le_of_ble_eq_true rfl) ?_
  refine BS_iload dX8_spoilt_25 ?_
  refine BS_if_le (tgt := 37) dX8_spoilt_27 (by decide) ?_ ?_
  · refine BS_aload_n dX8_spoilt_37 rfl ?_
    refine BS_iload_n dX8_spoilt_38 rfl ?_
    refine BS_iload_n dX8_spoilt_39 rfl ?_
    refine BS_call (run_V dX8_spoilt_40 con_X8_year (ci := 15) rfl rfl q2388 q2390 qs129 q146 q2391 pd_X8_year ⟨Nat.le_of_ble_eq_true rfl, Nat.le_of_ble_eq_true rfl⟩) BV_no ?_
    refine BS_aload_n dX8_spoilt_43 rfl ?_
    refine BS_iload_n dX8_spoilt_44 rfl ?_
    refine BS_if_eq (tgt := 55) dX8_spoilt_45 (by decide) ?_ ?_
    · refine BS_aload_n dX8_spoilt_55 rfl ?_
      refine BS_gfi f_X8_573 dX8_spoilt_56 ?_
      exact bs_X8_spoilt_b59
    · refine BS_aload_n dX8_spoilt_48 rfl ?_
      refine BS_gfi f_X8_576 dX8_spoilt_49 ?_
      refine BS_goto (tgt := 59) dX8_spoilt_52 (by decide) ?_
      exact bs_X8_spoilt_b59
  · refine BS_aload_n dX8_spoilt_30 rfl ?_
    refine BS_iload dX8_spoilt_31 ?_
    refine BS_call (run_V dX8_spoilt_33 con_X8_refused (ci := 15) rfl rfl q1749 q1751 qs58 q146 q1752 pd_X8_refused ⟨Nat.le_of_ble_eq_true rfl, Nat.le_of_ble_eq_true rfl⟩) BV_no ?_
    exact BS_ireturn dX8_spoilt_36 rfl
noncomputable def F_X8_spoilt_b0 : KK OO :=
  op_ald 0 <| op_push (.int 0) <| op_pfi .int [25] 98 <| op_ald 0 <| op_ald 0 <| op_gfr [25] 101 <| op_ifn (op_push (.int 0) <| F_X8_spoilt_b18) (op_push (.int 1) <| F_X8_spoilt_b18)
theorem bs_X8_spoilt_b0 : B_S M_X8_spoilt 0 (F_X8_spoilt_b0) z_O k_O := by
  unfold F_X8_spoilt_b0
  refine BS_aload_n dX8_spoilt_0 rfl ?_
  refine BS_iconst dX8_spoilt_1 (by decide) ?_
  refine BS_pfi p_X8_53 (fun h => by cases h) dX8_spoilt_2 ?_
  refine BS_aload_n dX8_spoilt_5 rfl ?_
  refine BS_aload_n dX8_spoilt_6 rfl ?_
  refine BS_gfr f_X8_373 dX8_spoilt_7 ?_
  refine BS_ifnull (tgt := 17) dX8_spoilt_10 (by decide) ?_ ?_
  · refine BS_iconst dX8_spoilt_17 (by decide) ?_
    exact bs_X8_spoilt_b18
  · refine BS_iconst dX8_spoilt_13 (by decide) ?_
    refine BS_goto (tgt := 18) dX8_spoilt_14 (by decide) ?_
    exact bs_X8_spoilt_b18
noncomputable def F_X8_spoilt : FF := mk_F 5 F_X8_spoilt_b0
theorem con_X8_spoilt : Con_ yX8_spoilt (ws_ yX8_spoilt cX8_spoilt 5 (some .int)) 6 148 F_X8_spoilt := Con_of (by decide +kernel) bs_X8_spoilt_b0
/-- LongerHalfModel.denied(I)Z -/
abbrev M_X8_denied : MM := (yX8_denied, cX8_denied, (some .boolean), 1, 21, 2, [])
theorem pd_X8_denied : (yX8_denied.cls ≠ "java/lang/invoke/MethodHandle" ∧ yX8_denied.cls ≠ "java/lang/invoke/VarHandle") ∧ (parseMethodDescriptor yX8_denied.desc).map (fun d => d.parameters.length) = some 1 := ⟨⟨by decide +kernel, by decide +kernel⟩, by decide +kernel⟩
noncomputable def F_X8_denied_b0 : KK OO :=
  op_ald 0 <| op_ild 1 <| op_call 2 (f_kd 25 F_X8_refused) kx_no <| op_pop <| op_push (.int 0) <| op_iret .boolean
theorem bs_X8_denied_b0 : B_S M_X8_denied 0 (F_X8_denied_b0) z_O k_O := by
  unfold F_X8_denied_b0
  refine BS_aload_n dX8_denied_0 rfl ?_
  refine BS_iload_n dX8_denied_1 rfl ?_
  refine BS_call (run_V dX8_denied_2 con_X8_refused (ci := 15) rfl rfl q1749 q1751 qs58 q146 q1752 pd_X8_refused ⟨Nat.le_of_ble_eq_true rfl, Nat.le_of_ble_eq_true rfl⟩) BV_no ?_
  refine BS_pop dX8_denied_5 ?_
  refine BS_iconst dX8_denied_6 (by decide) ?_
  exact BS_ireturn dX8_denied_7 rfl
noncomputable def F_X8_denied : FF := mk_F 2 F_X8_denied_b0
theorem con_X8_denied : Con_ yX8_denied (ws_ yX8_denied cX8_denied 2 (some .boolean)) 1 21 F_X8_denied := Con_of (by decide +kernel) bs_X8_denied_b0
/-- LongerHalfModel.granted()Z -/
abbrev M_X8_granted : MM := (yX8_granted, cX8_granted, (some .boolean), 1, 21, 1, [])
theorem pd_X8_granted : (yX8_granted.cls ≠ "java/lang/invoke/MethodHandle" ∧ yX8_granted.cls ≠ "java/lang/invoke/VarHandle") ∧ (parseMethodDescriptor yX8_granted.desc).map (fun d => d.parameters.length) = some 0 := ⟨⟨by decide +kernel, by decide +kernel⟩, by decide +kernel⟩
noncomputable def F_X8_granted_b0 : KK OO :=
  op_ald 0 <| op_push (.int 0) <| op_call 2 (f_kd 25 F_X8_good) kx_no <| op_pop <| op_push (.int 1) <| op_iret .boolean
theorem bs_X8_granted_b0 : B_S M_X8_granted 0 (F_X8_granted_b0) z_O k_O := by
  unfold F_X8_granted_b0
  refine BS_aload_n dX8_granted_0 rfl ?_
  refine BS_iconst dX8_granted_1 (by decide) ?_
  refine BS_call (run_V dX8_granted_2 con_X8_good (ci := 15) rfl rfl q2063 q2065 qs86 q146 q2066 pd_X8_good ⟨Nat.le_of_ble_eq_true rfl, Nat.le_of_ble_eq_true rfl⟩) BV_no ?_
  refine BS_pop dX8_granted_5 ?_
  refine BS_iconst dX8_granted_6 (by decide) ?_
  exact BS_ireturn dX8_granted_7 rfl
noncomputable def F_X8_granted : FF := mk_F 1 F_X8_granted_b0
theorem con_X8_granted : Con_ yX8_granted (ws_ yX8_granted cX8_granted 1 (some .boolean)) 1 21 F_X8_granted := Con_of (by decide +kernel) bs_X8_granted_b0
/-- LongerHalfModel.keeps()V -/
abbrev M_X8_keeps : MM := (yX8_keeps, cX8_keeps, none, 0, 0, 2, [])
theorem pd_X8_keeps : (yX8_keeps.cls ≠ "java/lang/invoke/MethodHandle" ∧ yX8_keeps.cls ≠ "java/lang/invoke/VarHandle") ∧ (parseMethodDescriptor yX8_keeps.desc).map (fun d => d.parameters.length) = some 0 := ⟨⟨by decide +kernel, by decide +kernel⟩, by decide +kernel⟩
noncomputable def F_X8_keeps_l51 : KK (L_S ⊕ OO) :=
  op_ild 1 <| op_push (.int 18) <| op_cge (op_exit <| op_ald 0 <| op_dup <| op_gfi [25] 117 <| op_push (.int 1) <| op_i2 (fun x y => x + y) <| op_pfi .int [25] 117 <| op_vret) (op_ald 0 <| op_gfr [25] 115 <| op_push (.int 18) <| op_ald 0 <| op_gfi [25] 117 <| op_i2 (fun x y => x * y) <| op_ild 1 <| op_i2 (fun x y => x + y) <| op_ald 0 <| op_gfr [25] 114 <| op_ild 1 <| op_iald 1 <| op_iast 1 .int <| op_iinc 1 1 <| op_back)
theorem bs_X8_keeps_l51 : B_S M_X8_keeps 51 (F_X8_keeps_l51) (z_L z_O) (k_L 51 k_O) := by
  unfold F_X8_keeps_l51
  refine BS_iload_n dX8_keeps_51 rfl ?_
  refine BS_bipush dX8_keeps_52 (by decide) ?_
  refine BS_icmp_ge (tgt := 83) dX8_keeps_54 (by decide) ?_ ?_
  · refine BS_exit ?_
    refine BS_aload_n dX8_keeps_83 rfl ?_
    refine BS_dup dX8_keeps_84 ?_
    refine BS_gfi f_X8_375 dX8_keeps_85 ?_
    refine BS_iconst dX8_keeps_88 (by decide) ?_
    refine BS_iadd dX8_keeps_89 ?_
    refine BS_pfi p_X8_375 (fun h => by cases h) dX8_keeps_90 ?_
    exact BS_return dX8_keeps_93 rfl
  · refine BS_aload_n dX8_keeps_57 rfl ?_
    refine BS_gfr f_X8_21 dX8_keeps_58 ?_
    refine BS_bipush dX8_keeps_61 (by decide) ?_
    refine BS_aload_n dX8_keeps_63 rfl ?_
    refine BS_gfi f_X8_375 dX8_keeps_64 ?_
    refine BS_imul dX8_keeps_67 ?_
    refine BS_iload_n dX8_keeps_68 rfl ?_
    refine BS_iadd dX8_keeps_69 ?_
    refine BS_aload_n dX8_keeps_70 rfl ?_
    refine BS_gfr f_X8_17 dX8_keeps_71 ?_
    refine BS_iload_n dX8_keeps_74 rfl ?_
    refine BS_iaload dX8_keeps_75 ?_
    refine BS_iastore dX8_keeps_76 ?_
    refine BS_iinc dX8_keeps_77 (by decide) (Nat.le_of_ble_eq_true rfl) ?_
    refine BS_goto (tgt := 51) dX8_keeps_80 (by decide) ?_
    exact BS_back
noncomputable def F_X8_keeps_b51 : KK OO := op_loop (F_X8_keeps_l51)
theorem bs_X8_keeps_b51 : B_S M_X8_keeps 51 (F_X8_keeps_b51) z_O k_O := BS_loop (bs_X8_keeps_l51)
noncomputable def F_X8_keeps_b49 : KK OO :=
  op_push (.int 0) <| op_ist 1 <| F_X8_keeps_b51
theorem bs_X8_keeps_b49 : B_S M_X8_keeps 49 (F_X8_keeps_b49) z_O k_O := by
  unfold F_X8_keeps_b49
  refine BS_iconst dX8_keeps_49 (by decide) ?_
  refine BS_istore_n dX8_keeps_50 rfl (Nat.le_of_ble_eq_true rfl) ?_
  exact bs_X8_keeps_b51
noncomputable def F_X8_keeps_l11 : KK (L_S ⊕ OO) :=
  op_ild 1 <| op_push (.int 270) <| op_cge (op_exit <| op_ald 0 <| op_dup <| op_gfi [25] 117 <| op_push (.int 1) <| op_i2 (fun x y => x - y) <| op_pfi .int [25] 117 <| F_X8_keeps_b49) (op_ald 0 <| op_gfr [25] 115 <| op_ild 1 <| op_ald 0 <| op_gfr [25] 115 <| op_ild 1 <| op_push (.int 18) <| op_i2 (fun x y => x + y) <| op_iald 1 <| op_iast 1 .int <| op_iinc 1 1 <| op_back)
theorem bs_X8_keeps_l11 : B_S M_X8_keeps 11 (F_X8_keeps_l11) (z_L z_O) (k_L 11 k_O) := by
  unfold F_X8_keeps_l11
  refine BS_iload_n dX8_keeps_11 rfl ?_
  refine BS_sipush dX8_keeps_12 (by decide) ?_
  refine BS_icmp_ge (tgt := 39) dX8_keeps_15 (by decide) ?_ ?_
  · refine BS_exit ?_
    refine BS_aload_n dX8_keeps_39 rfl ?_
    refine BS_dup dX8_keeps_40 ?_
    refine BS_gfi f_X8_375 dX8_keeps_41 ?_
    refine BS_iconst dX8_keeps_44 (by decide) ?_
    refine BS_isub dX8_keeps_45 ?_
    refine BS_pfi p_X8_375 (fun h => by cases h) dX8_keeps_46 ?_
    exact bs_X8_keeps_b49
  · refine BS_aload_n dX8_keeps_18 rfl ?_
    refine BS_gfr f_X8_21 dX8_keeps_19 ?_
    refine BS_iload_n dX8_keeps_22 rfl ?_
    refine BS_aload_n dX8_keeps_23 rfl ?_
    refine BS_gfr f_X8_21 dX8_keeps_24 ?_
    refine BS_iload_n dX8_keeps_27 rfl ?_
    refine BS_bipush dX8_keeps_28 (by decide) ?_
    refine BS_iadd dX8_keeps_30 ?_
    refine BS_iaload dX8_keeps_31 ?_
    refine BS_iastore dX8_keeps_32 ?_
    refine BS_iinc dX8_keeps_33 (by decide) (Nat.le_of_ble_eq_true rfl) ?_
    refine BS_goto (tgt := 11) dX8_keeps_36 (by decide) ?_
    exact BS_back
noncomputable def F_X8_keeps_b11 : KK OO := op_loop (F_X8_keeps_l11)
theorem bs_X8_keeps_b11 : B_S M_X8_keeps 11 (F_X8_keeps_b11) z_O k_O := BS_loop (bs_X8_keeps_l11)
noncomputable def F_X8_keeps_b0 : KK OO :=
  op_ald 0 <| op_gfi [25] 117 <| op_push (.int 16) <| op_cne (F_X8_keeps_b49) (op_push (.int 0) <| op_ist 1 <| F_X8_keeps_b11)
theorem bs_X8_keeps_b0 : B_S M_X8_keeps 0 (F_X8_keeps_b0) z_O k_O := by
  unfold F_X8_keeps_b0
  refine BS_aload_n dX8_keeps_0 rfl ?_
  refine BS_gfi f_X8_375 dX8_keeps_1 ?_
  refine BS_bipush dX8_keeps_4 (by decide) ?_
  refine BS_icmp_ne (tgt := 49) dX8_keeps_6 (by decide) ?_ ?_
  · exact bs_X8_keeps_b49
  · refine BS_iconst dX8_keeps_9 (by decide) ?_
    refine BS_istore_n dX8_keeps_10 rfl (Nat.le_of_ble_eq_true rfl) ?_
    exact bs_X8_keeps_b11
noncomputable def F_X8_keeps : FF := mk_F 2 F_X8_keeps_b0
theorem con_X8_keeps : Con_ yX8_keeps (ws_ yX8_keeps cX8_keeps 2 none) 0 0 F_X8_keeps := Con_of (by decide +kernel) bs_X8_keeps_b0
/-- LongerHalfModel.dry(I)Z -/
abbrev M_X8_dry : MM := (yX8_dry, cX8_dry, (some .boolean), 2, 42, 3, [])
theorem pd_X8_dry : (yX8_dry.cls ≠ "java/lang/invoke/MethodHandle" ∧ yX8_dry.cls ≠ "java/lang/invoke/VarHandle") ∧ (parseMethodDescriptor yX8_dry.desc).map (fun d => d.parameters.length) = some 1 := ⟨⟨by decide +kernel, by decide +kernel⟩, by decide +kernel⟩
noncomputable def F_X8_dry_l40 : KK (L_S ⊕ OO) :=
  op_ild 2 <| op_ald 0 <| op_gfr [25] 101 <| op_gfi [26] 142 <| op_cge (op_exit <| op_ald 0 <| op_call 1 (f_kd 25 F_X8_granted) kx_no <| op_iret .boolean) (op_ald 0 <| op_gfr [25] 114 <| op_push (.int 10) <| op_iald 1 <| op_ild 2 <| op_call 2 F_X8_bit kx_no <| op_ine (op_iinc 2 1 <| op_back) (op_ald 0 <| op_gfr [25] 114 <| op_push (.int 5) <| op_ild 2 <| op_i2 (fun x y => x + y) <| op_ald 0 <| op_gfr [25] 114 <| op_push (.int 5) <| op_ild 2 <| op_i2 (fun x y => x + y) <| op_iald 1 <| op_ild 1 <| op_i2 (fun x y => x + y) <| op_push (.int 24) <| op_cle (op_ald 0 <| op_gfr [25] 114 <| op_push (.int 5) <| op_ild 2 <| op_i2 (fun x y => x + y) <| op_iald 1 <| op_ild 1 <| op_i2 (fun x y => x + y) <| op_iast 1 .int <| op_iinc 2 1 <| op_back) (op_push (.int 24) <| op_iast 1 .int <| op_iinc 2 1 <| op_back)))
theorem bs_X8_dry_l40 : B_S M_X8_dry 40 (F_X8_dry_l40) (z_L z_O) (k_L 40 k_O) := by
  unfold F_X8_dry_l40
  refine BS_iload_n dX8_dry_40 rfl ?_
  refine BS_aload_n dX8_dry_41 rfl ?_
  refine BS_gfr f_X8_373 dX8_dry_42 ?_
  refine BS_gfi f_X8_210 dX8_dry_45 ?_
  refine BS_icmp_ge (tgt := 109) dX8_dry_48 (by decide) ?_ ?_
  · refine BS_exit ?_
    refine BS_aload_n dX8_dry_109 rfl ?_
    refine BS_call (run_V dX8_dry_110 con_X8_granted (ci := 15) rfl rfl q2419 q2421 qs134 q146 q2422 pd_X8_granted ⟨Nat.le_of_ble_eq_true rfl, Nat.le_of_ble_eq_true rfl⟩) BV_no ?_
    exact BS_ireturn dX8_dry_113 rfl
  · refine BS_aload_n dX8_dry_51 rfl ?_
    refine BS_gfr f_X8_17 dX8_dry_52 ?_
    refine BS_bipush dX8_dry_55 (by decide) ?_
    refine BS_iaload dX8_dry_57 ?_
    refine BS_iload_n dX8_dry_58 rfl ?_
    refine BS_call (run_S dX8_dry_59 con_X8_bit q2043 q2044 q146 q2045 pd_X8_bit ⟨Nat.le_of_ble_eq_true rfl, Nat.le_of_ble_eq_true rfl⟩) BV_no ?_
    refine BS_if_ne (tgt := 103) dX8_dry_62 (by decide) ?_ ?_
    · refine BS_iinc dX8_dry_103 (by decide) (Nat.le_of_ble_eq_true rfl) ?_
      refine BS_goto (tgt := 40) dX8_dry_106 (by decide) ?_
      exact BS_back
    · refine BS_aload_n dX8_dry_65 rfl ?_
      refine BS_gfr f_X8_17 dX8_dry_66 ?_
      refine BS_iconst dX8_dry_69 (by decide) ?_
      refine BS_iload_n dX8_dry_70 rfl ?_
      refine BS_iadd dX8_dry_71 ?_
      refine BS_aload_n dX8_dry_72 rfl ?_
      refine BS_gfr f_X8_17 dX8_dry_73 ?_
      refine BS_iconst dX8_dry_76 (by decide) ?_
      refine BS_iload_n dX8_dry_77 rfl ?_
      refine BS_iadd dX8_dry_78 ?_
      refine BS_iaload dX8_dry_79 ?_
      refine BS_iload_n dX8_dry_80 rfl ?_
      refine BS_iadd dX8_dry_81 ?_
      refine BS_bipush dX8_dry_82 (by decide) ?_
      refine BS_icmp_le (tgt := 92) dX8_dry_84 (by decide) ?_ ?_
      · refine BS_aload_n dX8_dry_92 rfl ?_
        refine BS_gfr f_X8_17 dX8_dry_93 ?_
        refine BS_iconst dX8_dry_96 (by decide) ?_
        refine BS_iload_n dX8_dry_97 rfl ?_
        refine BS_iadd dX8_dry_98 ?_
        refine BS_iaload dX8_dry_99 ?_
        refine BS_iload_n dX8_dry_100 rfl ?_
        refine BS_iadd dX8_dry_101 ?_
        refine BS_iastore dX8_dry_102 ?_
        refine BS_iinc dX8_dry_103 (by decide) (Nat.le_of_ble_eq_true rfl) ?_
        refine BS_goto (tgt := 40) dX8_dry_106 (by decide) ?_
        exact BS_back
      · refine BS_bipush dX8_dry_87 (by decide) ?_
        refine BS_goto (tgt := 102) dX8_dry_89 (by decide) ?_
        refine BS_iastore dX8_dry_102 ?_
        refine BS_iinc dX8_dry_103 (by decide) (Nat.le_of_ble_eq_true rfl) ?_
        refine BS_goto (tgt := 40) dX8_dry_106 (by decide) ?_
        exact BS_back
noncomputable def F_X8_dry_b40 : KK OO := op_loop (F_X8_dry_l40)
theorem bs_X8_dry_b40 : B_S M_X8_dry 40 (F_X8_dry_b40) z_O k_O := BS_loop (bs_X8_dry_l40)
noncomputable def F_X8_dry_b0 : KK OO :=
  op_ald 0 <| op_push (.int 0) <| op_pfi .int [25] 98 <| op_ald 0 <| op_gfr [25] 101 <| op_ifnn (op_ild 1 <| op_push (.int 1) <| op_push (.int 24) <| op_call 3 F_X8_in kx_no <| op_ine (op_ald 0 <| op_call 1 (f_kd 25 F_X8_keeps) kx_no <| op_push (.int 0) <| op_ist 2 <| F_X8_dry_b40) (op_ald 0 <| op_push (.int 2) <| op_call 2 (f_kd 25 F_X8_denied) kx_no <| op_iret .boolean)) (op_ald 0 <| op_push (.int 1) <| op_call 2 (f_kd 25 F_X8_denied) kx_no <| op_iret .boolean)
theorem bs_X8_dry_b0 : B_S M_X8_dry 0 (F_X8_dry_b0) z_O k_O := by
  unfold F_X8_dry_b0
  refine BS_aload_n dX8_dry_0 rfl ?_
  refine BS_iconst dX8_dry_1 (by decide) ?_
  refine BS_pfi p_X8_53 (fun h => by cases h) dX8_dry_2 ?_
  refine BS_aload_n dX8_dry_5 rfl ?_
  refine BS_gfr f_X8_373 dX8_dry_6 ?_
  refine BS_ifnonnull (tgt := 18) dX8_dry_9 (by decide) ?_ ?_
  · refine BS_iload_n dX8_dry_18 rfl ?_
    refine BS_iconst dX8_dry_19 (by decide) ?_
    refine BS_bipush dX8_dry_20 (by decide) ?_
    refine BS_call (run_S dX8_dry_22 con_X8_in q1965 q1966 q146 q1967 pd_X8_in ⟨Nat.le_of_ble_eq_true rfl, Nat.le_of_ble_eq_true rfl⟩) BV_no ?_
    refine BS_if_ne (tgt := 34) dX8_dry_25 (by decide) ?_ ?_
    · refine BS_aload_n dX8_dry_34 rfl ?_
      refine BS_call (run_V dX8_dry_35 con_X8_keeps (ci := 15) rfl rfl q2415 q2417 qs133 q146 q2418 pd_X8_keeps ⟨Nat.le_of_ble_eq_true rfl, Nat.le_of_ble_eq_true rfl⟩) BV_no ?_
      refine BS_iconst dX8_dry_38 (by decide) ?_
      refine BS_istore_n dX8_dry_39 rfl (Nat.le_of_ble_eq_true rfl) ?_
      exact bs_X8_dry_b40
    · refine BS_aload_n dX8_dry_28 rfl ?_
      refine BS_iconst dX8_dry_29 (by decide) ?_
      refine BS_call (run_V dX8_dry_30 con_X8_denied (ci := 15) rfl rfl q2411 q2413 qs132 q146 q2414 pd_X8_denied ⟨Nat.le_of_ble_eq_true rfl, Nat.le_of_ble_eq_true rfl⟩) BV_no ?_
      exact BS_ireturn dX8_dry_33 rfl
  · refine BS_aload_n dX8_dry_12 rfl ?_
    refine BS_iconst dX8_dry_13 (by decide) ?_
    refine BS_call (run_V dX8_dry_14 con_X8_denied (ci := 15) rfl rfl q2411 q2413 qs132 q146 q2414 pd_X8_denied ⟨Nat.le_of_ble_eq_true rfl, Nat.le_of_ble_eq_true rfl⟩) BV_no ?_
    exact BS_ireturn dX8_dry_17 rfl
noncomputable def F_X8_dry : FF := mk_F 3 F_X8_dry_b0
theorem con_X8_dry : Con_ yX8_dry (ws_ yX8_dry cX8_dry 3 (some .boolean)) 2 42 F_X8_dry := Con_of (by decide +kernel) bs_X8_dry_b0
/-- LongerHalfModel.boil(I)Z -/
abbrev M_X8_boil : MM := (yX8_boil, cX8_boil, (some .boolean), 2, 42, 2, [])
theorem pd_X8_boil : (yX8_boil.cls ≠ "java/lang/invoke/MethodHandle" ∧ yX8_boil.cls ≠ "java/lang/invoke/VarHandle") ∧ (parseMethodDescriptor yX8_boil.desc).map (fun d => d.parameters.length) = some 1 := ⟨⟨by decide +kernel, by decide +kernel⟩, by decide +kernel⟩
noncomputable def F_X8_boil_b45 : KK OO :=
  op_ald 0 <| op_push (.int 5) <| op_call 2 (f_kd 25 F_X8_denied) kx_no <| op_iret .boolean
theorem bs_X8_boil_b45 : B_S M_X8_boil 45 (F_X8_boil_b45) z_O k_O := by
  unfold F_X8_boil_b45
  refine BS_aload_n dX8_boil_45 rfl ?_
  refine BS_iconst dX8_boil_46 (by decide) ?_
  refine BS_call (run_V dX8_boil_47 con_X8_denied (ci := 15) rfl rfl q2411 q2413 qs132 q146 q2414 pd_X8_denied ⟨Nat.le_of_ble_eq_true rfl, Nat.le_of_ble_eq_true rfl⟩) BV_no ?_
  exact BS_ireturn dX8_boil_50 rfl
noncomputable def F_X8_boil_b0 : KK OO :=
  op_ald 0 <| op_push (.int 0) <| op_pfi .int [25] 98 <| op_ald 0 <| op_ild 1 <| op_call 2 (f_kd 25 F_X8_isBone) kx_no <| op_ine (op_ald 0 <| op_gfr [25] 114 <| op_push (.int 10) <| op_iald 1 <| op_ild 1 <| op_call 2 F_X8_bit kx_no <| op_ine (F_X8_boil_b45) (op_ald 0 <| op_gfr [25] 114 <| op_push (.int 0) <| op_ild 1 <| op_i2 (fun x y => x + y) <| op_iald 1 <| op_push (.int 2) <| op_cne (op_ald 0 <| op_call 1 (f_kd 25 F_X8_keeps) kx_no <| op_ald 0 <| op_gfr [25] 114 <| op_push (.int 0) <| op_ild 1 <| op_i2 (fun x y => x + y) <| op_push (.int 2) <| op_iast 1 .int <| op_ald 0 <| op_call 1 (f_kd 25 F_X8_granted) kx_no <| op_iret .boolean) (F_X8_boil_b45))) (op_ald 0 <| op_push (.int 1) <| op_call 2 (f_kd 25 F_X8_denied) kx_no <| op_iret .boolean)
theorem bs_X8_boil_b0 : B_S M_X8_boil 0 (F_X8_boil_b0) z_O k_O := by
  unfold F_X8_boil_b0
  refine BS_aload_n dX8_boil_0 rfl ?_
  refine BS_iconst dX8_boil_1 (by decide) ?_
  refine BS_pfi p_X8_53 (fun h => by cases h) dX8_boil_2 ?_
  refine BS_aload_n dX8_boil_5 rfl ?_
  refine BS_iload_n dX8_boil_6 rfl ?_
  refine BS_call (run_V dX8_boil_7 con_X8_isBone (ci := 15) rfl rfl q2079 q2081 qs87 q146 q2082 pd_X8_isBone ⟨Nat.le_of_ble_eq_true rfl, Nat.le_of_ble_eq_true rfl⟩) BV_no ?_
  refine BS_if_ne (tgt := 19) dX8_boil_10 (by decide) ?_ ?_
  · refine BS_aload_n dX8_boil_19 rfl ?_
    refine BS_gfr f_X8_17 dX8_boil_20 ?_
    refine BS_bipush dX8_boil_23 (by decide) ?_
    refine BS_iaload dX8_boil_25 ?_
    refine BS_iload_n dX8_boil_26 rfl ?_
    refine BS_call (run_S dX8_boil_27 con_X8_bit q2043 q2044 q146 q2045 pd_X8_bit ⟨Nat.le_of_ble_eq_true rfl, Nat.le_of_ble_eq_true rfl⟩) BV_no ?_
    refine BS_if_ne (tgt := 45) dX8_boil_30 (by decide) ?_ ?_
    · exact bs_X8_boil_b45
    · refine BS_aload_n dX8_boil_33 rfl ?_
      refine BS_gfr f_X8_17 dX8_boil_34 ?_
      refine BS_iconst dX8_boil_37 (by decide) ?_
      refine BS_iload_n dX8_boil_38 rfl ?_
      refine BS_iadd dX8_boil_39 ?_
      refine BS_iaload dX8_boil_40 ?_
      refine BS_iconst dX8_boil_41 (by decide) ?_
      refine BS_icmp_ne (tgt := 51) dX8_boil_42 (by decide) ?_ ?_
      · refine BS_aload_n dX8_boil_51 rfl ?_
        refine BS_call (run_V dX8_boil_52 con_X8_keeps (ci := 15) rfl rfl q2415 q2417 qs133 q146 q2418 pd_X8_keeps ⟨Nat.le_of_ble_eq_true rfl, Nat.le_of_ble_eq_true rfl⟩) BV_no ?_
        refine BS_aload_n dX8_boil_55 rfl ?_
        refine BS_gfr f_X8_17 dX8_boil_56 ?_
        refine BS_iconst dX8_boil_59 (by decide) ?_
        refine BS_iload_n dX8_boil_60 rfl ?_
        refine BS_iadd dX8_boil_61 ?_
        refine BS_iconst dX8_boil_62 (by decide) ?_
        refine BS_iastore dX8_boil_63 ?_
        refine BS_aload_n dX8_boil_64 rfl ?_
        refine BS_call (run_V dX8_boil_65 con_X8_granted (ci := 15) rfl rfl q2419 q2421 qs134 q146 q2422 pd_X8_granted ⟨Nat.le_of_ble_eq_true rfl, Nat.le_of_ble_eq_true rfl⟩) BV_no ?_
        exact BS_ireturn dX8_boil_68 rfl
      · exact bs_X8_boil_b45
  · refine BS_aload_n dX8_boil_13 rfl ?_
    refine BS_iconst dX8_boil_14 (by decide) ?_
    refine BS_call (run_V dX8_boil_15 con_X8_denied (ci := 15) rfl rfl q2411 q2413 qs132 q146 q2414 pd_X8_denied ⟨Nat.le_of_ble_eq_true rfl, Nat.le_of_ble_eq_true rfl⟩) BV_no ?_
    exact BS_ireturn dX8_boil_18 rfl
noncomputable def F_X8_boil : FF := mk_F 2 F_X8_boil_b0
theorem con_X8_boil : Con_ yX8_boil (ws_ yX8_boil cX8_boil 2 (some .boolean)) 2 42 F_X8_boil := Con_of (by decide +kernel) bs_X8_boil_b0
/-- LongerHalfModel.pull(IIIIII)I -/
abbrev M_X8_pull : MM := (yX8_pull, cX8_pull, (some .int), 5, 121, 9, [])
theorem pd_X8_pull : (yX8_pull.cls ≠ "java/lang/invoke/MethodHandle" ∧ yX8_pull.cls ≠ "java/lang/invoke/VarHandle") ∧ (parseMethodDescriptor yX8_pull.desc).map (fun d => d.parameters.length) = some 6 := ⟨⟨by decide +kernel, by decide +kernel⟩, by decide +kernel⟩
noncomputable def F_X8_pull_b79 : KK OO :=
  op_ald 0 <| op_push (.int 5) <| op_call 2 (f_kd 25 F_X8_refused) kx_no <| op_iret .int
theorem bs_X8_pull_b79 : B_S M_X8_pull 79 (F_X8_pull_b79) z_O k_O := by
  unfold F_X8_pull_b79
  refine BS_aload_n dX8_pull_79 rfl ?_
  refine BS_iconst dX8_pull_80 (by decide) ?_
  refine BS_call (run_V dX8_pull_81 con_X8_refused (ci := 15) rfl rfl q1749 q1751 qs58 q146 q1752 pd_X8_refused ⟨Nat.le_of_ble_eq_true rfl, Nat.le_of_ble_eq_true rfl⟩) BV_no ?_
  exact BS_ireturn dX8_pull_84 rfl
noncomputable def F_X8_pull_b194 : KK OO :=
  op_ald 0 <| op_ild 8 <| op_call 2 (f_kd 25 F_X8_good) kx_no <| op_iret .int
theorem bs_X8_pull_b194 : B_S M_X8_pull 194 (F_X8_pull_b194) z_O k_O := by
  unfold F_X8_pull_b194
  refine BS_aload_n dX8_pull_194 rfl ?_
  refine BS_iload dX8_pull_195 ?_
  refine BS_call (run_V dX8_pull_197 con_X8_good (ci := 15) rfl rfl q2063 q2065 qs86 q146 q2066 pd_X8_good ⟨Nat.le_of_ble_eq_true rfl, Nat.le_of_ble_eq_true rfl⟩) BV_no ?_
  exact BS_ireturn dX8_pull_200 rfl
noncomputable def F_X8_pull_b153 : KK OO :=
  op_ild 8 <| op_ine (op_ild 8 <| op_push (.int 1) <| op_cne (F_X8_pull_b194) (op_ald 0 <| op_gfr [25] 114 <| op_push (.int 11) <| op_ild 4 <| op_i2 (fun x y => x + y) <| op_dup2 <| op_iald 1 <| op_push (.int 1) <| op_i2 (fun x y => x + y) <| op_iast 1 .int <| F_X8_pull_b194)) (op_ald 0 <| op_gfr [25] 114 <| op_push (.int 11) <| op_ild 2 <| op_i2 (fun x y => x + y) <| op_dup2 <| op_iald 1 <| op_push (.int 1) <| op_i2 (fun x y => x + y) <| op_iast 1 .int <| F_X8_pull_b194)
theorem bs_X8_pull_b153 : B_S M_X8_pull 153 (F_X8_pull_b153) z_O k_O := by
  unfold F_X8_pull_b153
  refine BS_iload dX8_pull_153 ?_
  refine BS_if_ne (tgt := 174) dX8_pull_155 (by decide) ?_ ?_
  · refine BS_iload dX8_pull_174 ?_
    refine BS_iconst dX8_pull_176 (by decide) ?_
    refine BS_icmp_ne (tgt := 194) dX8_pull_177 (by decide) ?_ ?_
    · exact bs_X8_pull_b194
    · refine BS_aload_n dX8_pull_180 rfl ?_
      refine BS_gfr f_X8_17 dX8_pull_181 ?_
      refine BS_bipush dX8_pull_184 (by decide) ?_
      refine BS_iload dX8_pull_186 ?_
      refine BS_iadd dX8_pull_188 ?_
      refine BS_dup2 dX8_pull_189 ?_
      refine BS_iaload dX8_pull_190 ?_
      refine BS_iconst dX8_pull_191 (by decide) ?_
      refine BS_iadd dX8_pull_192 ?_
      refine BS_iastore dX8_pull_193 ?_
      exact bs_X8_pull_b194
  · refine BS_aload_n dX8_pull_158 rfl ?_
    refine BS_gfr f_X8_17 dX8_pull_159 ?_
    refine BS_bipush dX8_pull_162 (by decide) ?_
    refine BS_iload_n dX8_pull_164 rfl ?_
    refine BS_iadd dX8_pull_165 ?_
    refine BS_dup2 dX8_pull_166 ?_
    refine BS_iaload dX8_pull_167 ?_
    refine BS_iconst dX8_pull_168 (by decide) ?_
    refine BS_iadd dX8_pull_169 ?_
    refine BS_iastore dX8_pull_170 ?_
    refine BS_goto (tgt := 194) dX8_pull_171 (by decide) ?_
    exact bs_X8_pull_b194
noncomputable def F_X8_pull_b127 : KK OO :=
  op_iast 1 .int <| op_ald 0 <| op_call 1 (f_kd 25 F_X8_comes) kx_no <| op_ist 8 <| op_ild 8 <| op_push (.int 3) <| op_ceq (F_X8_pull_b153) (op_ald 0 <| op_gfr [25] 114 <| op_push (.int 10) <| op_dup2 <| op_iald 1 <| op_push (.int 1) <| op_ild 1 <| op_i2 (fun x y => x <<< (y &&& 31)) <| op_i2 (fun x y => x ||| y) <| op_iast 1 .int <| F_X8_pull_b153)
theorem bs_X8_pull_b127 : B_S M_X8_pull 127 (F_X8_pull_b127) z_O k_O := by
  unfold F_X8_pull_b127
  refine BS_iastore dX8_pull_127 ?_
  refine BS_aload_n dX8_pull_128 rfl ?_
  refine BS_call (run_V dX8_pull_129 con_X8_comes (ci := 15) rfl rfl q2151 q2153 qs98 q146 q2154 pd_X8_comes ⟨Nat.le_of_ble_eq_true rfl, Nat.le_of_ble_eq_true rfl⟩) BV_no ?_
  refine BS_istore dX8_pull_132 (Nat.le_of_ble_eq_true rfl) ?_
  refine BS_iload dX8_pull_134 ?_
  refine BS_iconst dX8_pull_136 (by decide) ?_
  refine BS_icmp_eq (tgt := 153) dX8_pull_137 (by decide) ?_ ?_
  · exact bs_X8_pull_b153
  · refine BS_aload_n dX8_pull_140 rfl ?_
    refine BS_gfr f_X8_17 dX8_pull_141 ?_
    refine BS_bipush dX8_pull_144 (by decide) ?_
    refine BS_dup2 dX8_pull_146 ?_
    refine BS_iaload dX8_pull_147 ?_
    refine BS_iconst dX8_pull_148 (by decide) ?_
    refine BS_iload_n dX8_pull_149 rfl ?_
    refine BS_ishl dX8_pull_150 ?_
    refine BS_ior dX8_pull_151 ?_
    refine BS_iastore dX8_pull_152 ?_
    exact bs_X8_pull_b153
noncomputable def F_X8_pull_b45 : KK OO :=
  op_ald 0 <| op_ild 7 <| op_call 2 (f_kd 25 F_X8_refused) kx_no <| op_iret .int
theorem bs_X8_pull_b45 : B_S M_X8_pull 45 (F_X8_pull_b45) z_O k_O := by
  unfold F_X8_pull_b45
  refine BS_aload_n dX8_pull_45 rfl ?_
  refine BS_iload dX8_pull_46 ?_
  refine BS_call (run_V dX8_pull_48 con_X8_refused (ci := 15) rfl rfl q1749 q1751 qs58 q146 q1752 pd_X8_refused ⟨Nat.le_of_ble_eq_true rfl, Nat.le_of_ble_eq_true rfl⟩) BV_no ?_
  exact BS_ireturn dX8_pull_51 rfl
noncomputable def F_X8_pull_b29 : KK OO :=
  op_ild 1 <| op_ild 3 <| op_ild 5 <| op_ild 6 <| op_call 6 (f_kd 25 F_X8_refusesPull) kx_no <| op_ist 7 <| op_ild 7 <| op_ile (op_ald 0 <| op_gfr [25] 101 <| op_gfr [26] 149 <| op_ild 1 <| op_iald 1 <| op_push (.int 1) <| op_ceq (F_X8_pull_b79) (op_ald 0 <| op_gfr [25] 114 <| op_push (.int 10) <| op_iald 1 <| op_ild 1 <| op_call 2 F_X8_bit kx_no <| op_ieq (op_ald 0 <| op_call 1 (f_kd 25 F_X8_keeps) kx_no <| op_ald 0 <| op_ald 0 <| op_gfr [25] 114 <| op_push (.int 17) <| op_iald 1 <| op_pfi .int [25] 133 <| op_ald 0 <| op_ild 1 <| op_ild 2 <| op_ild 3 <| op_ild 4 <| op_ild 5 <| op_ild 6 <| op_call 7 (f_kd 25 F_X8_lays) kx_no <| op_ald 0 <| op_call 1 (f_kd 25 F_X8_flawsByDraws) kx_no <| op_ald 0 <| op_gfr [25] 114 <| op_push (.int 17) <| op_ald 0 <| op_gfi [25] 133 <| F_X8_pull_b127) (F_X8_pull_b79))) (F_X8_pull_b45)
theorem bs_X8_pull_b29 : B_S M_X8_pull 29 (F_X8_pull_b29) z_O k_O := by
  unfold F_X8_pull_b29
  refine BS_iload_n dX8_pull_29 rfl ?_
  refine BS_iload_n dX8_pull_30 rfl ?_
  refine BS_iload dX8_pull_31 ?_
  refine BS_iload dX8_pull_33 ?_
  refine BS_call (run_V dX8_pull_35 con_X8_refusesPull (ci := 15) rfl rfl q2139 q2141 qs96 q146 q2142 pd_X8_refusesPull ⟨Nat.le_of_ble_eq_true rfl, Nat.le_of_ble_eq_true rfl⟩) BV_no ?_
  refine BS_istore dX8_pull_38 (Nat.le_of_ble_eq_true rfl) ?_
  refine BS_iload dX8_pull_40 ?_
  refine BS_if_le (tgt := 52) dX8_pull_42 (by decide) ?_ ?_
  · refine BS_aload_n dX8_pull_52 rfl ?_
    refine BS_gfr f_X8_373 dX8_pull_53 ?_
    refine BS_gfr f_X8_288 dX8_pull_56 ?_
    refine BS_iload_n dX8_pull_59 rfl ?_
    refine BS_iaload dX8_pull_60 ?_
    refine BS_iconst dX8_pull_61 (by decide) ?_
    refine BS_icmp_eq (tgt := 79) dX8_pull_62 (by decide) ?_ ?_
    · exact bs_X8_pull_b79
    · refine BS_aload_n dX8_pull_65 rfl ?_
      refine BS_gfr f_X8_17 dX8_pull_66 ?_
      refine BS_bipush dX8_pull_69 (by decide) ?_
      refine BS_iaload dX8_pull_71 ?_
      refine BS_iload_n dX8_pull_72 rfl ?_
      refine BS_call (run_S dX8_pull_73 con_X8_bit q2043 q2044 q146 q2045 pd_X8_bit ⟨Nat.le_of_ble_eq_true rfl, Nat.le_of_ble_eq_true rfl⟩) BV_no ?_
      refine BS_if_eq (tgt := 85) dX8_pull_76 (by decide) ?_ ?_
      · refine BS_aload_n dX8_pull_85 rfl ?_
        refine BS_call (run_V dX8_pull_86 con_X8_keeps (ci := 15) rfl rfl q2415 q2417 qs133 q146 q2418 pd_X8_keeps ⟨Nat.le_of_ble_eq_true rfl, Nat.le_of_ble_eq_true rfl⟩) BV_no ?_
        refine BS_aload_n dX8_pull_89 rfl ?_
        refine BS_aload_n dX8_pull_90 rfl ?_
        refine BS_gfr f_X8_17 dX8_pull_91 ?_
        refine BS_bipush dX8_pull_94 (by decide) ?_
        refine BS_iaload dX8_pull_96 ?_
        refine BS_pfi p_X8_563 (fun h => by cases h) dX8_pull_97 ?_
        refine BS_aload_n dX8_pull_100 rfl ?_
        refine BS_iload_n dX8_pull_101 rfl ?_
        refine BS_iload_n dX8_pull_102 rfl ?_
        refine BS_iload_n dX8_pull_103 rfl ?_
        refine BS_iload dX8_pull_104 ?_
        refine BS_iload dX8_pull_106 ?_
        refine BS_iload dX8_pull_108 ?_
        refine BS_call (run_V dX8_pull_110 con_X8_lays (ci := 15) rfl rfl q2119 q2121 qs92 q146 q2122 pd_X8_lays ⟨Nat.le_of_ble_eq_true rfl, Nat.le_of_ble_eq_true rfl⟩) BV_no ?_
        refine BS_aload_n dX8_pull_113 rfl ?_
        refine BS_call (run_V dX8_pull_114 con_X8_flawsByDraws (ci := 15) rfl rfl q2399 q2401 qs131 q146 q2402 pd_X8_flawsByDraws ⟨Nat.le_of_ble_eq_true rfl, Nat.le_of_ble_eq_true rfl⟩) BV_no ?_
        refine BS_aload_n dX8_pull_117 rfl ?_
        refine BS_gfr f_X8_17 dX8_pull_118 ?_
        refine BS_bipush dX8_pull_121 (by decide) ?_
        refine BS_aload_n dX8_pull_123 rfl ?_
        refine BS_gfi f_X8_563 dX8_pull_124 ?_
        exact bs_X8_pull_b127
      · exact bs_X8_pull_b79
  · exact bs_X8_pull_b45
noncomputable def F_X8_pull_b28 : KK OO :=
  op_push (.int 0) <| F_X8_pull_b29
theorem bs_X8_pull_b28 : B_S M_X8_pull 28 (F_X8_pull_b28) z_O k_O := by
  unfold F_X8_pull_b28
  refine BS_iconst dX8_pull_28 (by decide) ?_
  exact bs_X8_pull_b29
noncomputable def F_X8_pull_b0 : KK OO :=
  op_ald 0 <| op_push (.int 0) <| op_pfi .int [25] 98 <| op_ald 0 <| op_ald 0 <| op_ild 1 <| op_call 2 (f_kd 25 F_X8_isBone) kx_no <| op_ieq (F_X8_pull_b28) (op_ald 0 <| op_ild 2 <| op_ild 4 <| op_call 3 (f_kd 25 F_X8_isPair) kx_no <| op_ieq (F_X8_pull_b28) (op_push (.int 1) <| F_X8_pull_b29))
theorem bs_X8_pull_b0 : B_S M_X8_pull 0 (F_X8_pull_b0) z_O k_O := by
  unfold F_X8_pull_b0
  refine BS_aload_n dX8_pull_0 rfl ?_
  refine BS_iconst dX8_pull_1 (by decide) ?_
  refine BS_pfi p_X8_53 (fun h => by cases h) dX8_pull_2 ?_
  refine BS_aload_n dX8_pull_5 rfl ?_
  refine BS_aload_n dX8_pull_6 rfl ?_
  refine BS_iload_n dX8_pull_7 rfl ?_
  refine BS_call (run_V dX8_pull_8 con_X8_isBone (ci := 15) rfl rfl q2079 q2081 qs87 q146 q2082 pd_X8_isBone ⟨Nat.le_of_ble_eq_true rfl, Nat.le_of_ble_eq_true rfl⟩) BV_no ?_
  refine BS_if_eq (tgt := 28) dX8_pull_11 (by decide) ?_ ?_
  · exact bs_X8_pull_b28
  · refine BS_aload_n dX8_pull_14 rfl ?_
    refine BS_iload_n dX8_pull_15 rfl ?_
    refine BS_iload dX8_pull_16 ?_
    refine BS_call (run_V dX8_pull_18 con_X8_isPair (ci := 15) rfl rfl q2135 q2137 qs95 q146 q2138 pd_X8_isPair ⟨Nat.le_of_ble_eq_true rfl, Nat.le_of_ble_eq_true rfl⟩) BV_no ?_
    refine BS_if_eq (tgt := 28) dX8_pull_21 (by decide) ?_ ?_
    · exact bs_X8_pull_b28
    · refine BS_iconst dX8_pull_24 (by decide) ?_
      refine BS_goto (tgt := 29) dX8_pull_25 (by decide) ?_
      exact bs_X8_pull_b29
noncomputable def F_X8_pull : FF := mk_F 9 F_X8_pull_b0
theorem con_X8_pull : Con_ yX8_pull (ws_ yX8_pull cX8_pull 9 (some .int)) 5 121 F_X8_pull := Con_of (by decide +kernel) bs_X8_pull_b0
/-- LongerHalfModel.seed(I)Z -/
abbrev M_X8_seed : MM := (yX8_seed, cX8_seed, (some .boolean), 2, 42, 2, [])
theorem pd_X8_seed : (yX8_seed.cls ≠ "java/lang/invoke/MethodHandle" ∧ yX8_seed.cls ≠ "java/lang/invoke/VarHandle") ∧ (parseMethodDescriptor yX8_seed.desc).map (fun d => d.parameters.length) = some 1 := ⟨⟨by decide +kernel, by decide +kernel⟩, by decide +kernel⟩
noncomputable def F_X8_seed_b0 : KK OO :=
  op_ald 0 <| op_push (.int 0) <| op_pfi .int [25] 98 <| op_ald 0 <| op_gfr [25] 101 <| op_ifnn (op_ild 1 <| op_push (.int 0) <| op_push (.int 65536) <| op_call 3 F_X8_in kx_no <| op_ine (op_ald 0 <| op_gfr [25] 114 <| op_push (.int 17) <| op_ild 1 <| op_iast 1 .int <| op_ald 0 <| op_call 1 (f_kd 25 F_X8_granted) kx_no <| op_iret .boolean) (op_ald 0 <| op_push (.int 2) <| op_call 2 (f_kd 25 F_X8_denied) kx_no <| op_iret .boolean)) (op_ald 0 <| op_push (.int 1) <| op_call 2 (f_kd 25 F_X8_denied) kx_no <| op_iret .boolean)
theorem bs_X8_seed_b0 : B_S M_X8_seed 0 (F_X8_seed_b0) z_O k_O := by
  unfold F_X8_seed_b0
  refine BS_aload_n dX8_seed_0 rfl ?_
  refine BS_iconst dX8_seed_1 (by decide) ?_
  refine BS_pfi p_X8_53 (fun h => by cases h) dX8_seed_2 ?_
  refine BS_aload_n dX8_seed_5 rfl ?_
  refine BS_gfr f_X8_373 dX8_seed_6 ?_
  refine BS_ifnonnull (tgt := 18) dX8_seed_9 (by decide) ?_ ?_
  · refine BS_iload_n dX8_seed_18 rfl ?_
    refine BS_iconst dX8_seed_19 (by decide) ?_
    refine BS_ldcw dX8_seed_20 q2387 ?_
    refine BS_call (run_S dX8_seed_23 con_X8_in q1965 q1966 q146 q1967 pd_X8_in ⟨Nat.le_of_ble_eq_true rfl, Nat.le_of_ble_eq_true rfl⟩) BV_no ?_
    refine BS_if_ne (tgt := 35) dX8_seed_26 (by decide) ?_ ?_
    · refine BS_aload_n dX8_seed_35 rfl ?_
      refine BS_gfr f_X8_17 dX8_seed_36 ?_
      refine BS_bipush dX8_seed_39 (by decide) ?_
      refine BS_iload_n dX8_seed_41 rfl ?_
      refine BS_iastore dX8_seed_42 ?_
      refine BS_aload_n dX8_seed_43 rfl ?_
      refine BS_call (run_V dX8_seed_44 con_X8_granted (ci := 15) rfl rfl q2419 q2421 qs134 q146 q2422 pd_X8_granted ⟨Nat.le_of_ble_eq_true rfl, Nat.le_of_ble_eq_true rfl⟩) BV_no ?_
      exact BS_ireturn dX8_seed_47 rfl
    · refine BS_aload_n dX8_seed_29 rfl ?_
      refine BS_iconst dX8_seed_30 (by decide) ?_
      refine BS_call (run_V dX8_seed_31 con_X8_denied (ci := 15) rfl rfl q2411 q2413 qs132 q146 q2414 pd_X8_denied ⟨Nat.le_of_ble_eq_true rfl, Nat.le_of_ble_eq_true rfl⟩) BV_no ?_
      exact BS_ireturn dX8_seed_34 rfl
  · refine BS_aload_n dX8_seed_12 rfl ?_
    refine BS_iconst dX8_seed_13 (by decide) ?_
    refine BS_call (run_V dX8_seed_14 con_X8_denied (ci := 15) rfl rfl q2411 q2413 qs132 q146 q2414 pd_X8_denied ⟨Nat.le_of_ble_eq_true rfl, Nat.le_of_ble_eq_true rfl⟩) BV_no ?_
    exact BS_ireturn dX8_seed_17 rfl
noncomputable def F_X8_seed : FF := mk_F 2 F_X8_seed_b0
theorem con_X8_seed : Con_ yX8_seed (ws_ yX8_seed cX8_seed 2 (some .boolean)) 2 42 F_X8_seed := Con_of (by decide +kernel) bs_X8_seed_b0
/-- LongerHalfModel.undo()Z -/
abbrev M_X8_undo : MM := (yX8_undo, cX8_undo, (some .boolean), 2, 42, 2, [])
theorem pd_X8_undo : (yX8_undo.cls ≠ "java/lang/invoke/MethodHandle" ∧ yX8_undo.cls ≠ "java/lang/invoke/VarHandle") ∧ (parseMethodDescriptor yX8_undo.desc).map (fun d => d.parameters.length) = some 0 := ⟨⟨by decide +kernel, by decide +kernel⟩, by decide +kernel⟩
noncomputable def F_X8_undo_b19 : KK OO :=
  op_ald 0 <| op_push (.int 6) <| op_call 2 (f_kd 25 F_X8_denied) kx_no <| op_iret .boolean
theorem bs_X8_undo_b19 : B_S M_X8_undo 19 (F_X8_undo_b19) z_O k_O := by
  unfold F_X8_undo_b19
  refine BS_aload_n dX8_undo_19 rfl ?_
  refine BS_bipush dX8_undo_20 (by decide) ?_
  refine BS_call (run_V dX8_undo_22 con_X8_denied (ci := 15) rfl rfl q2411 q2413 qs132 q146 q2414 pd_X8_denied ⟨Nat.le_of_ble_eq_true rfl, Nat.le_of_ble_eq_true rfl⟩) BV_no ?_
  exact BS_ireturn dX8_undo_25 rfl
noncomputable def F_X8_undo_l38 : KK (L_S ⊕ OO) :=
  op_ild 1 <| op_push (.int 18) <| op_cge (op_exit <| op_ald 0 <| op_call 1 (f_kd 25 F_X8_granted) kx_no <| op_iret .boolean) (op_ald 0 <| op_gfr [25] 114 <| op_ild 1 <| op_ald 0 <| op_gfr [25] 115 <| op_push (.int 18) <| op_ald 0 <| op_gfi [25] 117 <| op_i2 (fun x y => x * y) <| op_ild 1 <| op_i2 (fun x y => x + y) <| op_iald 1 <| op_iast 1 .int <| op_iinc 1 1 <| op_back)
theorem bs_X8_undo_l38 : B_S M_X8_undo 38 (F_X8_undo_l38) (z_L z_O) (k_L 38 k_O) := by
  unfold F_X8_undo_l38
  refine BS_iload_n dX8_undo_38 rfl ?_
  refine BS_bipush dX8_undo_39 (by decide) ?_
  refine BS_icmp_ge (tgt := 70) dX8_undo_41 (by decide) ?_ ?_
  · refine BS_exit ?_
    refine BS_aload_n dX8_undo_70 rfl ?_
    refine BS_call (run_V dX8_undo_71 con_X8_granted (ci := 15) rfl rfl q2419 q2421 qs134 q146 q2422 pd_X8_granted ⟨Nat.le_of_ble_eq_true rfl, Nat.le_of_ble_eq_true rfl⟩) BV_no ?_
    exact BS_ireturn dX8_undo_74 rfl
  · refine BS_aload_n dX8_undo_44 rfl ?_
    refine BS_gfr f_X8_17 dX8_undo_45 ?_
    refine BS_iload_n dX8_undo_48 rfl ?_
    refine BS_aload_n dX8_undo_49 rfl ?_
    refine BS_gfr f_X8_21 dX8_undo_50 ?_
    refine BS_bipush dX8_undo_53 (by decide) ?_
    refine BS_aload_n dX8_undo_55 rfl ?_
    refine BS_gfi f_X8_375 dX8_undo_56 ?_
    refine BS_imul dX8_undo_59 ?_
    refine BS_iload_n dX8_undo_60 rfl ?_
    refine BS_iadd dX8_undo_61 ?_
    refine BS_iaload dX8_undo_62 ?_
    refine BS_iastore dX8_undo_63 ?_
    refine BS_iinc dX8_undo_64 (by decide) (Nat.le_of_ble_eq_true rfl) ?_
    refine BS_goto (tgt := 38) dX8_undo_67 (by decide) ?_
    exact BS_back
noncomputable def F_X8_undo_b38 : KK OO := op_loop (F_X8_undo_l38)
theorem bs_X8_undo_b38 : B_S M_X8_undo 38 (F_X8_undo_b38) z_O k_O := BS_loop (bs_X8_undo_l38)
noncomputable def F_X8_undo_b0 : KK OO :=
  op_ald 0 <| op_push (.int 0) <| op_pfi .int [25] 98 <| op_ald 0 <| op_gfr [25] 101 <| op_ifn (F_X8_undo_b19) (op_ald 0 <| op_gfi [25] 117 <| op_ine (op_ald 0 <| op_dup <| op_gfi [25] 117 <| op_push (.int 1) <| op_i2 (fun x y => x - y) <| op_pfi .int [25] 117 <| op_push (.int 0) <| op_ist 1 <| F_X8_undo_b38) (F_X8_undo_b19))
theorem bs_X8_undo_b0 : B_S M_X8_undo 0 (F_X8_undo_b0) z_O k_O := by
  unfold F_X8_undo_b0
  refine BS_aload_n dX8_undo_0 rfl ?_
  refine BS_iconst dX8_undo_1 (by decide) ?_
  refine BS_pfi p_X8_53 (fun h => by cases h) dX8_undo_2 ?_
  refine BS_aload_n dX8_undo_5 rfl ?_
  refine BS_gfr f_X8_373 dX8_undo_6 ?_
  refine BS_ifnull (tgt := 19) dX8_undo_9 (by decide) ?_ ?_
  · exact bs_X8_undo_b19
  · refine BS_aload_n dX8_undo_12 rfl ?_
    refine BS_gfi f_X8_375 dX8_undo_13 ?_
    refine BS_if_ne (tgt := 26) dX8_undo_16 (by decide) ?_ ?_
    · refine BS_aload_n dX8_undo_26 rfl ?_
      refine BS_dup dX8_undo_27 ?_
      refine BS_gfi f_X8_375 dX8_undo_28 ?_
      refine BS_iconst dX8_undo_31 (by decide) ?_
      refine BS_isub dX8_undo_32 ?_
      refine BS_pfi p_X8_375 (fun h => by cases h) dX8_undo_33 ?_
      refine BS_iconst dX8_undo_36 (by decide) ?_
      refine BS_istore_n dX8_undo_37 rfl (Nat.le_of_ble_eq_true rfl) ?_
      exact bs_X8_undo_b38
    · exact bs_X8_undo_b19
noncomputable def F_X8_undo : FF := mk_F 2 F_X8_undo_b0
theorem con_X8_undo : Con_ yX8_undo (ws_ yX8_undo cX8_undo 2 (some .boolean)) 2 42 F_X8_undo := Con_of (by decide +kernel) bs_X8_undo_b0
/-- LongerHalfModel.mark()I -/
abbrev M_X8_mark : MM := (yX8_mark, cX8_mark, (some .int), 1, 21, 2, [])
theorem pd_X8_mark : (yX8_mark.cls ≠ "java/lang/invoke/MethodHandle" ∧ yX8_mark.cls ≠ "java/lang/invoke/VarHandle") ∧ (parseMethodDescriptor yX8_mark.desc).map (fun d => d.parameters.length) = some 0 := ⟨⟨by decide +kernel, by decide +kernel⟩, by decide +kernel⟩
noncomputable def F_X8_mark_l34 : KK (L_S ⊕ OO) :=
  op_ild 1 <| op_push (.int 18) <| op_cge (op_exit <| op_ald 0 <| op_dup <| op_gfi [25] 118 <| op_push (.int 1) <| op_i2 (fun x y => x + y) <| op_pfi .int [25] 118 <| op_ald 0 <| op_ald 0 <| op_gfi [25] 118 <| op_push (.int 1) <| op_i2 (fun x y => x - y) <| op_call 2 (f_kd 25 F_X8_good) kx_no <| op_iret .int) (op_ald 0 <| op_gfr [25] 116 <| op_push (.int 18) <| op_ald 0 <| op_gfi [25] 118 <| op_i2 (fun x y => x * y) <| op_ild 1 <| op_i2 (fun x y => x + y) <| op_ald 0 <| op_gfr [25] 114 <| op_ild 1 <| op_iald 1 <| op_iast 1 .int <| op_iinc 1 1 <| op_back)
theorem bs_X8_mark_l34 : B_S M_X8_mark 34 (F_X8_mark_l34) (z_L z_O) (k_L 34 k_O) := by
  unfold F_X8_mark_l34
  refine BS_iload_n dX8_mark_34 rfl ?_
  refine BS_bipush dX8_mark_35 (by decide) ?_
  refine BS_icmp_ge (tgt := 66) dX8_mark_37 (by decide) ?_ ?_
  · refine BS_exit ?_
    refine BS_aload_n dX8_mark_66 rfl ?_
    refine BS_dup dX8_mark_67 ?_
    refine BS_gfi f_X8_378 dX8_mark_68 ?_
    refine BS_iconst dX8_mark_71 (by decide) ?_
    refine BS_iadd dX8_mark_72 ?_
    refine BS_pfi p_X8_378 (fun h => by cases h) dX8_mark_73 ?_
    refine BS_aload_n dX8_mark_76 rfl ?_
    refine BS_aload_n dX8_mark_77 rfl ?_
    refine BS_gfi f_X8_378 dX8_mark_78 ?_
    refine BS_iconst dX8_mark_81 (by decide) ?_
    refine BS_isub dX8_mark_82 ?_
    refine BS_call (run_V dX8_mark_83 con_X8_good (ci := 15) rfl rfl q2063 q2065 qs86 q146 q2066 pd_X8_good ⟨Nat.le_of_ble_eq_true rfl, Nat.le_of_ble_eq_true rfl⟩) BV_no ?_
    exact BS_ireturn dX8_mark_86 rfl
  · refine BS_aload_n dX8_mark_40 rfl ?_
    refine BS_gfr f_X8_24 dX8_mark_41 ?_
    refine BS_bipush dX8_mark_44 (by decide) ?_
    refine BS_aload_n dX8_mark_46 rfl ?_
    refine BS_gfi f_X8_378 dX8_mark_47 ?_
    refine BS_imul dX8_mark_50 ?_
    refine BS_iload_n dX8_mark_51 rfl ?_
    refine BS_iadd dX8_mark_52 ?_
    refine BS_aload_n dX8_mark_53 rfl ?_
    refine BS_gfr f_X8_17 dX8_mark_54 ?_
    refine BS_iload_n dX8_mark_57 rfl ?_
    refine BS_iaload dX8_mark_58 ?_
    refine BS_iastore dX8_mark_59 ?_
    refine BS_iinc dX8_mark_60 (by decide) (Nat.le_of_ble_eq_true rfl) ?_
    refine BS_goto (tgt := 34) dX8_mark_63 (by decide) ?_
    exact BS_back
noncomputable def F_X8_mark_b34 : KK OO := op_loop (F_X8_mark_l34)
theorem bs_X8_mark_b34 : B_S M_X8_mark 34 (F_X8_mark_b34) z_O k_O := BS_loop (bs_X8_mark_l34)
noncomputable def F_X8_mark_b0 : KK OO :=
  op_ald 0 <| op_push (.int 0) <| op_pfi .int [25] 98 <| op_ald 0 <| op_gfr [25] 101 <| op_ifnn (op_ald 0 <| op_gfi [25] 118 <| op_push (.int 3) <| op_cne (op_push (.int 0) <| op_ist 1 <| F_X8_mark_b34) (op_ald 0 <| op_push (.int 3) <| op_call 2 (f_kd 25 F_X8_refused) kx_no <| op_iret .int)) (op_ald 0 <| op_push (.int 1) <| op_call 2 (f_kd 25 F_X8_refused) kx_no <| op_iret .int)
theorem bs_X8_mark_b0 : B_S M_X8_mark 0 (F_X8_mark_b0) z_O k_O := by
  unfold F_X8_mark_b0
  refine BS_aload_n dX8_mark_0 rfl ?_
  refine BS_iconst dX8_mark_1 (by decide) ?_
  refine BS_pfi p_X8_53 (fun h => by cases h) dX8_mark_2 ?_
  refine BS_aload_n dX8_mark_5 rfl ?_
  refine BS_gfr f_X8_373 dX8_mark_6 ?_
  refine BS_ifnonnull (tgt := 18) dX8_mark_9 (by decide) ?_ ?_
  · refine BS_aload_n dX8_mark_18 rfl ?_
    refine BS_gfi f_X8_378 dX8_mark_19 ?_
    refine BS_iconst dX8_mark_22 (by decide) ?_
    refine BS_icmp_ne (tgt := 32) dX8_mark_23 (by decide) ?_ ?_
    · refine BS_iconst dX8_mark_32 (by decide) ?_
      refine BS_istore_n dX8_mark_33 rfl (Nat.le_of_ble_eq_true rfl) ?_
      exact bs_X8_mark_b34
    · refine BS_aload_n dX8_mark_26 rfl ?_
      refine BS_iconst dX8_mark_27 (by decide) ?_
      refine BS_call (run_V dX8_mark_28 con_X8_refused (ci := 15) rfl rfl q1749 q1751 qs58 q146 q1752 pd_X8_refused ⟨Nat.le_of_ble_eq_true rfl, Nat.le_of_ble_eq_true rfl⟩) BV_no ?_
      exact BS_ireturn dX8_mark_31 rfl
  · refine BS_aload_n dX8_mark_12 rfl ?_
    refine BS_iconst dX8_mark_13 (by decide) ?_
    refine BS_call (run_V dX8_mark_14 con_X8_refused (ci := 15) rfl rfl q1749 q1751 qs58 q146 q1752 pd_X8_refused ⟨Nat.le_of_ble_eq_true rfl, Nat.le_of_ble_eq_true rfl⟩) BV_no ?_
    exact BS_ireturn dX8_mark_17 rfl
noncomputable def F_X8_mark : FF := mk_F 2 F_X8_mark_b0
theorem con_X8_mark : Con_ yX8_mark (ws_ yX8_mark cX8_mark 2 (some .int)) 1 21 F_X8_mark := Con_of (by decide +kernel) bs_X8_mark_b0
/-- LongerHalfModel.back(I)Z -/
abbrev M_X8_back : MM := (yX8_back, cX8_back, (some .boolean), 2, 42, 3, [])
theorem pd_X8_back : (yX8_back.cls ≠ "java/lang/invoke/MethodHandle" ∧ yX8_back.cls ≠ "java/lang/invoke/VarHandle") ∧ (parseMethodDescriptor yX8_back.desc).map (fun d => d.parameters.length) = some 1 := ⟨⟨by decide +kernel, by decide +kernel⟩, by decide +kernel⟩
noncomputable def F_X8_back_b24 : KK OO :=
  op_ald 0 <| op_push (.int 1) <| op_call 2 (f_kd 25 F_X8_denied) kx_no <| op_iret .boolean
theorem bs_X8_back_b24 : B_S M_X8_back 24 (F_X8_back_b24) z_O k_O := by
  unfold F_X8_back_b24
  refine BS_aload_n dX8_back_24 rfl ?_
  refine BS_iconst dX8_back_25 (by decide) ?_
  refine BS_call (run_V dX8_back_26 con_X8_denied (ci := 15) rfl rfl q2411 q2413 qs132 q146 q2414 pd_X8_denied ⟨Nat.le_of_ble_eq_true rfl, Nat.le_of_ble_eq_true rfl⟩) BV_no ?_
  exact BS_ireturn dX8_back_29 rfl
noncomputable def F_X8_back_l32 : KK (L_S ⊕ OO) :=
  op_ild 2 <| op_push (.int 18) <| op_cge (op_exit <| op_ald 0 <| op_push (.int 0) <| op_pfi .int [25] 117 <| op_ald 0 <| op_call 1 (f_kd 25 F_X8_granted) kx_no <| op_iret .boolean) (op_ald 0 <| op_gfr [25] 114 <| op_ild 2 <| op_ald 0 <| op_gfr [25] 116 <| op_push (.int 18) <| op_ild 1 <| op_i2 (fun x y => x * y) <| op_ild 2 <| op_i2 (fun x y => x + y) <| op_iald 1 <| op_iast 1 .int <| op_iinc 2 1 <| op_back)
theorem bs_X8_back_l32 : B_S M_X8_back 32 (F_X8_back_l32) (z_L z_O) (k_L 32 k_O) := by
  unfold F_X8_back_l32
  refine BS_iload_n dX8_back_32 rfl ?_
  refine BS_bipush dX8_back_33 (by decide) ?_
  refine BS_icmp_ge (tgt := 61) dX8_back_35 (by decide) ?_ ?_
  · refine BS_exit ?_
    refine BS_aload_n dX8_back_61 rfl ?_
    refine BS_iconst dX8_back_62 (by decide) ?_
    refine BS_pfi p_X8_375 (fun h => by cases h) dX8_back_63 ?_
    refine BS_aload_n dX8_back_66 rfl ?_
    refine BS_call (run_V dX8_back_67 con_X8_granted (ci := 15) rfl rfl q2419 q2421 qs134 q146 q2422 pd_X8_granted ⟨Nat.le_of_ble_eq_true rfl, Nat.le_of_ble_eq_true rfl⟩) BV_no ?_
    exact BS_ireturn dX8_back_70 rfl
  · refine BS_aload_n dX8_back_38 rfl ?_
    refine BS_gfr f_X8_17 dX8_back_39 ?_
    refine BS_iload_n dX8_back_42 rfl ?_
    refine BS_aload_n dX8_back_43 rfl ?_
    refine BS_gfr f_X8_24 dX8_back_44 ?_
    refine BS_bipush dX8_back_47 (by decide) ?_
    refine BS_iload_n dX8_back_49 rfl ?_
    refine BS_imul dX8_back_50 ?_
    refine BS_iload_n dX8_back_51 rfl ?_
    refine BS_iadd dX8_back_52 ?_
    refine BS_iaload dX8_back_53 ?_
    refine BS_iastore dX8_back_54 ?_
    refine BS_iinc dX8_back_55 (by decide) (Nat.le_of_ble_eq_true rfl) ?_
    refine BS_goto (tgt := 32) dX8_back_58 (by decide) ?_
    exact BS_back
noncomputable def F_X8_back_b32 : KK OO := op_loop (F_X8_back_l32)
theorem bs_X8_back_b32 : B_S M_X8_back 32 (F_X8_back_b32) z_O k_O := BS_loop (bs_X8_back_l32)
noncomputable def F_X8_back_b0 : KK OO :=
  op_ald 0 <| op_push (.int 0) <| op_pfi .int [25] 98 <| op_ald 0 <| op_gfr [25] 101 <| op_ifn (F_X8_back_b24) (op_ild 1 <| op_ilt (F_X8_back_b24) (op_ild 1 <| op_ald 0 <| op_gfi [25] 118 <| op_clt (op_push (.int 0) <| op_ist 2 <| F_X8_back_b32) (F_X8_back_b24)))
theorem bs_X8_back_b0 : B_S M_X8_back 0 (F_X8_back_b0) z_O k_O := by
  unfold F_X8_back_b0
  refine BS_aload_n dX8_back_0 rfl ?_
  refine BS_iconst dX8_back_1 (by decide) ?_
  refine BS_pfi p_X8_53 (fun h => by cases h) dX8_back_2 ?_
  refine BS_aload_n dX8_back_5 rfl ?_
  refine BS_gfr f_X8_373 dX8_back_6 ?_
  refine BS_ifnull (tgt := 24) dX8_back_9 (by decide) ?_ ?_
  · exact bs_X8_back_b24
  · refine BS_iload_n dX8_back_12 rfl ?_
    refine BS_if_lt (tgt := 24) dX8_back_13 (by decide) ?_ ?_
    · exact bs_X8_back_b24
    · refine BS_iload_n dX8_back_16 rfl ?_
      refine BS_aload_n dX8_back_17 rfl ?_
      refine BS_gfi f_X8_378 dX8_back_18 ?_
      refine BS_icmp_lt (tgt := 30) dX8_back_21 (by decide) ?_ ?_
      · refine BS_iconst dX8_back_30 (by decide) ?_
        refine BS_istore_n dX8_back_31 rfl (Nat.le_of_ble_eq_true rfl) ?_
        exact bs_X8_back_b32
      · exact bs_X8_back_b24
noncomputable def F_X8_back : FF := mk_F 3 F_X8_back_b0
theorem con_X8_back : Con_ yX8_back (ws_ yX8_back cX8_back 3 (some .boolean)) 2 42 F_X8_back := Con_of (by decide +kernel) bs_X8_back_b0
/-- LongerHalfModel.led(I)I -/
abbrev M_X8_led : MM := (yX8_led, cX8_led, (some .int), 1, 21, 4, [])
theorem pd_X8_led : (yX8_led.cls ≠ "java/lang/invoke/MethodHandle" ∧ yX8_led.cls ≠ "java/lang/invoke/VarHandle") ∧ (parseMethodDescriptor yX8_led.desc).map (fun d => d.parameters.length) = some 1 := ⟨⟨by decide +kernel, by decide +kernel⟩, by decide +kernel⟩
noncomputable def F_X8_led_b60 : KK OO :=
  op_ald 0 <| op_push (.int 1) <| op_pfi .int [25] 98 <| op_push (.int 0) <| op_iret .int
theorem bs_X8_led_b60 : B_S M_X8_led 60 (F_X8_led_b60) z_O k_O := by
  unfold F_X8_led_b60
  refine BS_aload_n dX8_led_60 rfl ?_
  refine BS_iconst dX8_led_61 (by decide) ?_
  refine BS_pfi p_X8_53 (fun h => by cases h) dX8_led_62 ?_
  refine BS_iconst dX8_led_65 (by decide) ?_
  exact BS_ireturn dX8_led_66 rfl
noncomputable def F_X8_led_l9 : KK (L_S ⊕ OO) :=
  op_ald 0 <| op_gfr [25] 101 <| op_ifn (op_exit <| F_X8_led_b60) (op_ild 3 <| op_ald 0 <| op_gfr [25] 101 <| op_gfi [26] 142 <| op_cge (op_exit <| F_X8_led_b60) (op_ald 0 <| op_gfr [25] 114 <| op_push (.int 10) <| op_iald 1 <| op_ild 3 <| op_call 2 F_X8_bit kx_no <| op_ieq (op_ild 2 <| op_ild 1 <| op_cne (op_iinc 2 1 <| op_iinc 3 1 <| op_back) (op_exit <| op_ild 3 <| op_iret .int)) (op_iinc 3 1 <| op_back)))
theorem bs_X8_led_l9 : B_S M_X8_led 9 (F_X8_led_l9) (z_L z_O) (k_L 9 k_O) := by
  unfold F_X8_led_l9
  refine BS_aload_n dX8_led_9 rfl ?_
  refine BS_gfr f_X8_373 dX8_led_10 ?_
  refine BS_ifnull (tgt := 60) dX8_led_13 (by decide) ?_ ?_
  · refine BS_exit ?_
    exact bs_X8_led_b60
  · refine BS_iload_n dX8_led_16 rfl ?_
    refine BS_aload_n dX8_led_17 rfl ?_
    refine BS_gfr f_X8_373 dX8_led_18 ?_
    refine BS_gfi f_X8_210 dX8_led_21 ?_
    refine BS_icmp_ge (tgt := 60) dX8_led_24 (by decide) ?_ ?_
    · refine BS_exit ?_
      exact bs_X8_led_b60
    · refine BS_aload_n dX8_led_27 rfl ?_
      refine BS_gfr f_X8_17 dX8_led_28 ?_
      refine BS_bipush dX8_led_31 (by decide) ?_
      refine BS_iaload dX8_led_33 ?_
      refine BS_iload_n dX8_led_34 rfl ?_
      refine BS_call (run_S dX8_led_35 con_X8_bit q2043 q2044 q146 q2045 pd_X8_bit ⟨Nat.le_of_ble_eq_true rfl, Nat.le_of_ble_eq_true rfl⟩) BV_no ?_
      refine BS_if_eq (tgt := 44) dX8_led_38 (by decide) ?_ ?_
      · refine BS_iload_n dX8_led_44 rfl ?_
        refine BS_iload_n dX8_led_45 rfl ?_
        refine BS_icmp_ne (tgt := 51) dX8_led_46 (by decide) ?_ ?_
        · refine BS_iinc dX8_led_51 (by decide) (Nat.le_of_ble_eq_true rfl) ?_
          refine BS_iinc dX8_led_54 (by decide) (Nat.le_of_ble_eq_true rfl) ?_
          refine BS_goto (tgt := 9) dX8_led_57 (by decide) ?_
          exact BS_back
        · refine BS_exit ?_
          refine BS_iload_n dX8_led_49 rfl ?_
          exact BS_ireturn dX8_led_50 rfl
      · refine BS_goto (tgt := 54) dX8_led_41 (by decide) ?_
        refine BS_iinc dX8_led_54 (by decide) (Nat.le_of_ble_eq_true rfl) ?_
        refine BS_goto (tgt := 9) dX8_led_57 (by decide) ?_
        exact BS_back
noncomputable def F_X8_led_b9 : KK OO := op_loop (F_X8_led_l9)
theorem bs_X8_led_b9 : B_S M_X8_led 9 (F_X8_led_b9) z_O k_O := BS_loop (bs_X8_led_l9)
noncomputable def F_X8_led_b0 : KK OO :=
  op_ald 0 <| op_push (.int 0) <| op_pfi .int [25] 98 <| op_push (.int 0) <| op_ist 2 <| op_push (.int 0) <| op_ist 3 <| F_X8_led_b9
theorem bs_X8_led_b0 : B_S M_X8_led 0 (F_X8_led_b0) z_O k_O := by
  unfold F_X8_led_b0
  refine BS_aload_n dX8_led_0 rfl ?_
  refine BS_iconst dX8_led_1 (by decide) ?_
  refine BS_pfi p_X8_53 (fun h => by cases h) dX8_led_2 ?_
  refine BS_iconst dX8_led_5 (by decide) ?_
  refine BS_istore_n dX8_led_6 rfl (Nat.le_of_ble_eq_true rfl) ?_
  refine BS_iconst dX8_led_7 (by decide) ?_
  refine BS_istore_n dX8_led_8 rfl (Nat.le_of_ble_eq_true rfl) ?_
  exact bs_X8_led_b9
noncomputable def F_X8_led : FF := mk_F 4 F_X8_led_b0
theorem con_X8_led : Con_ yX8_led (ws_ yX8_led cX8_led 4 (some .int)) 1 21 F_X8_led := Con_of (by decide +kernel) bs_X8_led_b0
/-- LongerHalfModel.size(I)I -/
abbrev M_X8_size : MM := (yX8_size, cX8_size, (some .int), 1, 22, 2, [])
theorem pd_X8_size : (yX8_size.cls ≠ "java/lang/invoke/MethodHandle" ∧ yX8_size.cls ≠ "java/lang/invoke/VarHandle") ∧ (parseMethodDescriptor yX8_size.desc).map (fun d => d.parameters.length) = some 1 := ⟨⟨by decide +kernel, by decide +kernel⟩, by decide +kernel⟩
noncomputable def F_X8_size_b193 : KK OO :=
  op_ald 0 <| op_gfi [25] 118 <| op_iret .int
theorem bs_X8_size_b193 : B_S M_X8_size 193 (F_X8_size_b193) z_O k_O := by
  unfold F_X8_size_b193
  refine BS_aload_n dX8_size_193 rfl ?_
  refine BS_gfi f_X8_378 dX8_size_194 ?_
  exact BS_ireturn dX8_size_197 rfl
noncomputable def F_X8_size_b100 : KK OO :=
  op_ald 0 <| op_gfr [25] 101 <| op_gfi [26] 137 <| op_iret .int
theorem bs_X8_size_b100 : B_S M_X8_size 100 (F_X8_size_b100) z_O k_O := by
  unfold F_X8_size_b100
  refine BS_aload_n dX8_size_100 rfl ?_
  refine BS_gfr f_X8_373 dX8_size_101 ?_
  refine BS_gfi f_X8_250 dX8_size_104 ?_
  exact BS_ireturn dX8_size_107 rfl
noncomputable def F_X8_size_b108 : KK OO :=
  op_ald 0 <| op_gfr [25] 101 <| op_gfi [26] 138 <| op_iret .int
theorem bs_X8_size_b108 : B_S M_X8_size 108 (F_X8_size_b108) z_O k_O := by
  unfold F_X8_size_b108
  refine BS_aload_n dX8_size_108 rfl ?_
  refine BS_gfr f_X8_373 dX8_size_109 ?_
  refine BS_gfi f_X8_252 dX8_size_112 ?_
  exact BS_ireturn dX8_size_115 rfl
noncomputable def F_X8_size_b116 : KK OO :=
  op_ald 0 <| op_gfr [25] 101 <| op_gfi [26] 139 <| op_iret .int
theorem bs_X8_size_b116 : B_S M_X8_size 116 (F_X8_size_b116) z_O k_O := by
  unfold F_X8_size_b116
  refine BS_aload_n dX8_size_116 rfl ?_
  refine BS_gfr f_X8_373 dX8_size_117 ?_
  refine BS_gfi f_X8_254 dX8_size_120 ?_
  exact BS_ireturn dX8_size_123 rfl
noncomputable def F_X8_size_b124 : KK OO :=
  op_ald 0 <| op_gfr [25] 101 <| op_gfi [26] 140 <| op_iret .int
theorem bs_X8_size_b124 : B_S M_X8_size 124 (F_X8_size_b124) z_O k_O := by
  unfold F_X8_size_b124
  refine BS_aload_n dX8_size_124 rfl ?_
  refine BS_gfr f_X8_373 dX8_size_125 ?_
  refine BS_gfi f_X8_256 dX8_size_128 ?_
  exact BS_ireturn dX8_size_131 rfl
noncomputable def F_X8_size_b132 : KK OO :=
  op_ald 0 <| op_gfr [25] 101 <| op_gfi [26] 141 <| op_iret .int
theorem bs_X8_size_b132 : B_S M_X8_size 132 (F_X8_size_b132) z_O k_O := by
  unfold F_X8_size_b132
  refine BS_aload_n dX8_size_132 rfl ?_
  refine BS_gfr f_X8_373 dX8_size_133 ?_
  refine BS_gfi f_X8_258 dX8_size_136 ?_
  exact BS_ireturn dX8_size_139 rfl
noncomputable def F_X8_size_b140 : KK OO :=
  op_ald 0 <| op_gfr [25] 101 <| op_gfi [26] 142 <| op_iret .int
theorem bs_X8_size_b140 : B_S M_X8_size 140 (F_X8_size_b140) z_O k_O := by
  unfold F_X8_size_b140
  refine BS_aload_n dX8_size_140 rfl ?_
  refine BS_gfr f_X8_373 dX8_size_141 ?_
  refine BS_gfi f_X8_210 dX8_size_144 ?_
  exact BS_ireturn dX8_size_147 rfl
noncomputable def F_X8_size_b148 : KK OO :=
  op_ald 0 <| op_gfr [25] 101 <| op_gfi [26] 143 <| op_iret .int
theorem bs_X8_size_b148 : B_S M_X8_size 148 (F_X8_size_b148) z_O k_O := by
  unfold F_X8_size_b148
  refine BS_aload_n dX8_size_148 rfl ?_
  refine BS_gfr f_X8_373 dX8_size_149 ?_
  refine BS_gfi f_X8_213 dX8_size_152 ?_
  exact BS_ireturn dX8_size_155 rfl
noncomputable def F_X8_size_b156 : KK OO :=
  op_ald 0 <| op_gfr [25] 101 <| op_gfi [26] 144 <| op_iret .int
theorem bs_X8_size_b156 : B_S M_X8_size 156 (F_X8_size_b156) z_O k_O := by
  unfold F_X8_size_b156
  refine BS_aload_n dX8_size_156 rfl ?_
  refine BS_gfr f_X8_373 dX8_size_157 ?_
  refine BS_gfi f_X8_318 dX8_size_160 ?_
  exact BS_ireturn dX8_size_163 rfl
noncomputable def F_X8_size_b164 : KK OO :=
  op_ald 0 <| op_gfr [25] 101 <| op_gfi [26] 145 <| op_iret .int
theorem bs_X8_size_b164 : B_S M_X8_size 164 (F_X8_size_b164) z_O k_O := by
  unfold F_X8_size_b164
  refine BS_aload_n dX8_size_164 rfl ?_
  refine BS_gfr f_X8_373 dX8_size_165 ?_
  refine BS_gfi f_X8_334 dX8_size_168 ?_
  exact BS_ireturn dX8_size_171 rfl
noncomputable def F_X8_size_b172 : KK OO :=
  op_ald 0 <| op_gfr [25] 101 <| op_gfi [26] 146 <| op_iret .int
theorem bs_X8_size_b172 : B_S M_X8_size 172 (F_X8_size_b172) z_O k_O := by
  unfold F_X8_size_b172
  refine BS_aload_n dX8_size_172 rfl ?_
  refine BS_gfr f_X8_373 dX8_size_173 ?_
  refine BS_gfi f_X8_349 dX8_size_176 ?_
  exact BS_ireturn dX8_size_179 rfl
noncomputable def F_X8_size_b180 : KK OO :=
  op_ald 0 <| op_gfr [25] 114 <| op_push (.int 17) <| op_iald 1 <| op_iret .int
theorem bs_X8_size_b180 : B_S M_X8_size 180 (F_X8_size_b180) z_O k_O := by
  unfold F_X8_size_b180
  refine BS_aload_n dX8_size_180 rfl ?_
  refine BS_gfr f_X8_17 dX8_size_181 ?_
  refine BS_bipush dX8_size_184 (by decide) ?_
  refine BS_iaload dX8_size_186 ?_
  exact BS_ireturn dX8_size_187 rfl
noncomputable def F_X8_size_b188 : KK OO :=
  op_ald 0 <| op_gfi [25] 117 <| op_iret .int
theorem bs_X8_size_b188 : B_S M_X8_size 188 (F_X8_size_b188) z_O k_O := by
  unfold F_X8_size_b188
  refine BS_aload_n dX8_size_188 rfl ?_
  refine BS_gfi f_X8_375 dX8_size_189 ?_
  exact BS_ireturn dX8_size_192 rfl
noncomputable def F_X8_size_b0 : KK OO :=
  op_ald 0 <| op_push (.int 0) <| op_pfi .int [25] 98 <| op_ild 1 <| op_push (.int 13) <| op_cne (op_ild 1 <| op_push (.int 0) <| op_push (.int 12) <| op_call 3 F_X8_in kx_no <| op_ine (op_ald 0 <| op_gfr [25] 101 <| op_ifnn (op_ild 1 <| op_sw [((0), F_X8_size_b100), ((1), F_X8_size_b108), ((2), F_X8_size_b116), ((3), F_X8_size_b124), ((4), F_X8_size_b132), ((5), F_X8_size_b140), ((6), F_X8_size_b148), ((7), F_X8_size_b156), ((8), F_X8_size_b164), ((9), F_X8_size_b172), ((10), F_X8_size_b180), ((11), F_X8_size_b188)] (F_X8_size_b193)) (op_push (.int 0) <| op_iret .int)) (op_push (.int (-1)) <| op_iret .int)) (op_ald 0 <| op_gfi [25] 104 <| op_iret .int)
theorem bs_X8_size_b0 : B_S M_X8_size 0 (F_X8_size_b0) z_O k_O := by
  unfold F_X8_size_b0
  refine BS_aload_n dX8_size_0 rfl ?_
  refine BS_iconst dX8_size_1 (by decide) ?_
  refine BS_pfi p_X8_53 (fun h => by cases h) dX8_size_2 ?_
  refine BS_iload_n dX8_size_5 rfl ?_
  refine BS_bipush dX8_size_6 (by decide) ?_
  refine BS_icmp_ne (tgt := 16) dX8_size_8 (by decide) ?_ ?_
  · refine BS_iload_n dX8_size_16 rfl ?_
    refine BS_iconst dX8_size_17 (by decide) ?_
    refine BS_bipush dX8_size_18 (by decide) ?_
    refine BS_call (run_S dX8_size_20 con_X8_in q1965 q1966 q146 q1967 pd_X8_in ⟨Nat.le_of_ble_eq_true rfl, Nat.le_of_ble_eq_true rfl⟩) BV_no ?_
    refine BS_if_ne (tgt := 28) dX8_size_23 (by decide) ?_ ?_
    · refine BS_aload_n dX8_size_28 rfl ?_
      refine BS_gfr f_X8_373 dX8_size_29 ?_
      refine BS_ifnonnull (tgt := 37) dX8_size_32 (by decide) ?_ ?_
      · refine BS_iload_n dX8_size_37 rfl ?_
        refine BS_tsw dX8_size_38 (by decide) (td := 193) (by decide) ?_ ?_
        · exact bs_X8_size_b193
        · exact ⟨by decide, ⟨100, by decide, by
        exact bs_X8_size_b100⟩, ⟨by decide, ⟨108, by decide, by
        exact bs_X8_size_b108⟩, ⟨by decide, ⟨116, by decide, by
        exact bs_X8_size_b116⟩, ⟨by decide, ⟨124, by decide, by
        exact bs_X8_size_b124⟩, ⟨by decide, ⟨132, by decide, by
        exact bs_X8_size_b132⟩, ⟨by decide, ⟨140, by decide, by
        exact bs_X8_size_b140⟩, ⟨by decide, ⟨148, by decide, by
        exact bs_X8_size_b148⟩, ⟨by decide, ⟨156, by decide, by
        exact bs_X8_size_b156⟩, ⟨by decide, ⟨164, by decide, by
        exact bs_X8_size_b164⟩, ⟨by decide, ⟨172, by decide, by
        exact bs_X8_size_b172⟩, ⟨by decide, ⟨180, by decide, by
        exact bs_X8_size_b180⟩, ⟨by decide, ⟨188, by decide, by
        exact bs_X8_size_b188⟩, trivial⟩⟩⟩⟩⟩⟩⟩⟩⟩⟩⟩⟩
      · refine BS_iconst dX8_size_35 (by decide) ?_
        exact BS_ireturn dX8_size_36 rfl
    · refine BS_iconst dX8_size_26 (by decide) ?_
      exact BS_ireturn dX8_size_27 rfl
  · refine BS_aload_n dX8_size_11 rfl ?_
    refine BS_gfi f_X8_366 dX8_size_12 ?_
    exact BS_ireturn dX8_size_15 rfl
noncomputable def F_X8_size : FF := mk_F 2 F_X8_size_b0
theorem con_X8_size : Con_ yX8_size (ws_ yX8_size cX8_size 2 (some .int)) 1 22 F_X8_size := Con_of (by decide +kernel) bs_X8_size_b0
/-- LongerHalfModel.trouble()I -/
abbrev M_X8_trouble : MM := (yX8_trouble, cX8_trouble, (some .int), 0, 0, 1, [])
theorem pd_X8_trouble : (yX8_trouble.cls ≠ "java/lang/invoke/MethodHandle" ∧ yX8_trouble.cls ≠ "java/lang/invoke/VarHandle") ∧ (parseMethodDescriptor yX8_trouble.desc).map (fun d => d.parameters.length) = some 0 := ⟨⟨by decide +kernel, by decide +kernel⟩, by decide +kernel⟩
noncomputable def F_X8_trouble_b0 : KK OO :=
  op_ald 0 <| op_push (.int 0) <| op_pfi .int [25] 98 <| op_ald 0 <| op_gfi [25] 99 <| op_iret .int
theorem bs_X8_trouble_b0 : B_S M_X8_trouble 0 (F_X8_trouble_b0) z_O k_O := by
  unfold F_X8_trouble_b0
  refine BS_aload_n dX8_trouble_0 rfl ?_
  refine BS_iconst dX8_trouble_1 (by decide) ?_
  refine BS_pfi p_X8_53 (fun h => by cases h) dX8_trouble_2 ?_
  refine BS_aload_n dX8_trouble_5 rfl ?_
  refine BS_gfi f_X8_56 dX8_trouble_6 ?_
  exact BS_ireturn dX8_trouble_9 rfl
noncomputable def F_X8_trouble : FF := mk_F 1 F_X8_trouble_b0
theorem con_X8_trouble : Con_ yX8_trouble (ws_ yX8_trouble cX8_trouble 1 (some .int)) 0 0 F_X8_trouble := Con_of (by decide +kernel) bs_X8_trouble_b0
