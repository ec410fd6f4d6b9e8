/-! printed by emit.py: the functions that the methods compute, and their contracts -/
set_option maxRecDepth 100000
/-- LongerHalf.led(I)I -/
abbrev M_X1_led : MM := (yX1_led, cX1_led, (some .int), 8, 160, 4, [])
theorem pd_X1_led : (yX1_led.cls ≠ "java/lang/invoke/MethodHandle" ∧ yX1_led.cls ≠ "java/lang/invoke/VarHandle") ∧ (parseMethodDescriptor yX1_led.desc).map (fun d => d.parameters.length) = some 1 := ⟨⟨by decide +kernel, by decide +kernel⟩, by decide +kernel⟩
noncomputable def F_X1_led_b55 : KK OO :=
  op_mk0 <| op_throw kx_out
theorem bs_X1_led_b55 : B_S M_X1_led 55 (F_X1_led_b55) z_O k_O := by
  unfold F_X1_led_b55
  refine BS_mk0 rfl dX1_led_55 dX1_led_58 dX1_led_59 (Nat.le_of_ble_eq_true rfl) (Nat.le_of_ble_eq_true rfl) ?_
  exact BS_throw dX1_led_62 (BV_out (fun _ h => absurd h List.not_mem_nil))
noncomputable def F_X1_led_l4 : KK (L_S ⊕ OO) :=
  op_ald 0 <| op_gfr [10] 3 <| op_ifn (op_exit <| F_X1_led_b55) (op_ild 3 <| op_ald 0 <| op_gfr [10] 3 <| op_gfi [17] 77 <| op_cge (op_exit <| F_X1_led_b55) (op_ald 0 <| op_gfr [10] 9 <| op_gfi [13] 42 <| op_ild 3 <| op_call 2 F_X1_has kx_no <| op_ieq (op_ild 2 <| op_ild 1 <| op_cne (op_iinc 2 1 <| op_iinc 3 1 <| op_back) (op_exit <| op_ild 3 <| op_iret .int)) (op_iinc 3 1 <| op_back)))
theorem bs_X1_led_l4 : B_S M_X1_led 4 (F_X1_led_l4) (z_L z_O) (k_L 4 k_O) := by
  unfold F_X1_led_l4
  refine BS_aload_n dX1_led_4 rfl ?_
  refine BS_gfr f_X1_108 dX1_led_5 ?_
  refine BS_ifnull (tgt := 55) dX1_led_8 (by decide) ?_ ?_
  · refine BS_exit ?_
    exact bs_X1_led_b55
  · refine BS_iload_n dX1_led_11 rfl ?_
    refine BS_aload_n dX1_led_12 rfl ?_
    refine BS_gfr f_X1_108 dX1_led_13 ?_
    refine BS_gfi f_X1_128 dX1_led_16 ?_
    refine BS_icmp_ge (tgt := 55) dX1_led_19 (by decide) ?_ ?_
    · refine BS_exit ?_
      exact bs_X1_led_b55
    · refine BS_aload_n dX1_led_22 rfl ?_
      refine BS_gfr f_X1_33 dX1_led_23 ?_
      refine BS_gfi f_X1_166 dX1_led_26 ?_
      refine BS_iload_n dX1_led_29 rfl ?_
      refine BS_call (run_S dX1_led_30 con_X1_has q1093 q1045 q136 q1046 pd_X1_has ⟨Nat.le_of_ble_eq_true rfl, Nat.le_of_ble_eq_true rfl⟩) BV_no ?_
      refine BS_if_eq (tgt := 39) dX1_led_33 (by decide) ?_ ?_
      · refine BS_iload_n dX1_led_39 rfl ?_
        refine BS_iload_n dX1_led_40 rfl ?_
        refine BS_icmp_ne (tgt := 46) dX1_led_41 (by decide) ?_ ?_
        · refine BS_iinc dX1_led_46 (by decide) (Nat.le_of_ble_eq_true rfl) ?_
          refine BS_iinc dX1_led_49 (by decide) (Nat.le_of_ble_eq_true rfl) ?_
          refine BS_goto (tgt := 4) dX1_led_52 (by decide) ?_
          exact BS_back
        · refine BS_exit ?_
          refine BS_iload_n dX1_led_44 rfl ?_
          exact BS_ireturn dX1_led_45 rfl
      · refine BS_goto (tgt := 49) dX1_led_36 (by decide) ?_
        refine BS_iinc dX1_led_49 (by decide) (Nat.le_of_ble_eq_true rfl) ?_
        refine BS_goto (tgt := 4) dX1_led_52 (by decide) ?_
        exact BS_back
noncomputable def F_X1_led_b4 : KK OO := op_loop (F_X1_led_l4)
theorem bs_X1_led_b4 : B_S M_X1_led 4 (F_X1_led_b4) z_O k_O := BS_loop (bs_X1_led_l4)
noncomputable def F_X1_led_b0 : KK OO :=
  op_push (.int 0) <| op_ist 2 <| op_push (.int 0) <| op_ist 3 <| F_X1_led_b4
theorem bs_X1_led_b0 : B_S M_X1_led 0 (F_X1_led_b0) z_O k_O := by
  unfold F_X1_led_b0
  refine BS_iconst dX1_led_0 (by decide) ?_
  refine BS_istore_n dX1_led_1 rfl (Nat.le_of_ble_eq_true rfl) ?_
  refine BS_iconst dX1_led_2 (by decide) ?_
  refine BS_istore_n dX1_led_3 rfl (Nat.le_of_ble_eq_true rfl) ?_
  exact bs_X1_led_b4
noncomputable def F_X1_led : FF := mk_F 4 F_X1_led_b0
theorem con_X1_led : Con_ yX1_led (ws_ yX1_led cX1_led 4 (some .int)) 8 160 F_X1_led := Con_of (by decide +kernel) bs_X1_led_b0
/-- LongerHalfLaw.led(LLongerHalf;I[J)I -/
abbrev M_X0_led : MM := (yX0_led, cX0_led, (some .int), 9, 183, 4, (tableOf [((0 : Nat), (9 : Nat), (12 : Nat), (13 : Nat))]))
theorem pd_X0_led : (yX0_led.cls ≠ "java/lang/invoke/MethodHandle" ∧ yX0_led.cls ≠ "java/lang/invoke/VarHandle") ∧ (parseMethodDescriptor yX0_led.desc).map (fun d => d.parameters.length) = some 3 := ⟨⟨by decide +kernel, by decide +kernel⟩, by decide +kernel⟩
noncomputable def F_X0_led_b12 : KK OO :=
  op_ast 3 <| op_push (.int 1) <| op_iret .int
theorem bs_X0_led_b12 : B_S M_X0_led 12 (F_X0_led_b12) z_O k_O := by
  unfold F_X0_led_b12
  refine BS_astore_n dX0_led_12 rfl (Nat.le_of_ble_eq_true rfl) ?_
  refine BS_iconst dX0_led_13 (by decide) ?_
  exact BS_ireturn dX0_led_14 rfl
noncomputable def F_X0_led_b0 : KK OO :=
  op_ald 2 <| op_push (.int 0) <| op_ald 0 <| op_ild 1 <| op_call 2 (f_kd 10 F_X1_led) (kx_catch 28 F_X0_led_b12) <| op_i2l <| op_last <| op_push (.int 0) <| op_iret .int
theorem bs_X0_led_b0 : B_S M_X0_led 0 (F_X0_led_b0) z_O k_O := by
  unfold F_X0_led_b0
  refine BS_aload_n dX0_led_0 rfl ?_
  refine BS_iconst dX0_led_1 (by decide) ?_
  refine BS_aload_n dX0_led_2 rfl ?_
  refine BS_iload_n dX0_led_3 rfl ?_
  refine BS_call (run_V dX0_led_4 con_X1_led (ci := 0) rfl rfl q1587 q1588 q1589 q136 q1590 pd_X1_led ⟨Nat.le_of_ble_eq_true rfl, Nat.le_of_ble_eq_true rfl⟩) (BV_catch (ci := 18) (q := (RJ10, TJ10, 0)) rfl (by decide) (by decide) rfl q1586 rfl q1593 bs_X0_led_b12) ?_
  refine BS_i2l dX0_led_7 ?_
  refine BS_lastore dX0_led_8 ?_
  refine BS_goto (tgt := 15) dX0_led_9 (by decide) ?_
  refine BS_iconst dX0_led_15 (by decide) ?_
  exact BS_ireturn dX0_led_16 rfl
noncomputable def F_X0_led : FF := mk_F 4 F_X0_led_b0
theorem con_X0_led : Con_ yX0_led (wsW_ yX0_led cX0_led 4 (some .int) [((0 : Nat), (9 : Nat), (12 : Nat), (13 : Nat))]) 9 183 F_X0_led := Con_ofW (by decide +kernel) bs_X0_led_b0
