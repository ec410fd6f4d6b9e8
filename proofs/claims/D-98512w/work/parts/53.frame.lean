/-! what stays as it was -/
def Fr (ch : Nat → Nat → Prop) (h : AH) (h' : AH) : Prop :=
  (a_cs h' = a_cs h) ∧
  (a_kd h' = a_kd h) ∧
  (a_sz h' = a_sz h) ∧
  (a_sl h' = a_sl h) ∧
  (∀ k a, ¬ ch k a → a_fi h' k a = a_fi h k a) ∧
  (∀ k a, ¬ ch k a → a_fl h' k a = a_fl h k a) ∧
  (∀ k a, ¬ ch k a → a_fr h' k a = a_fr h k a) ∧
  (∀ a, ¬ ch 1000 a → a_ai h' a = a_ai h a) ∧
  (∀ a, ¬ ch 1000 a → a_al h' a = a_al h a) ∧
  (∀ a, ¬ ch 1000 a → a_ar h' a = a_ar h a)
theorem Fr_cs {ch : Nat → Nat → Prop} {h : AH} {h' : AH} (q : Fr ch h h') : a_cs h' = a_cs h := q.1
theorem Fr_kd {ch : Nat → Nat → Prop} {h : AH} {h' : AH} (q : Fr ch h h') : a_kd h' = a_kd h := q.2.1
theorem Fr_sz {ch : Nat → Nat → Prop} {h : AH} {h' : AH} (q : Fr ch h h') : a_sz h' = a_sz h := q.2.2.1
theorem Fr_sl {ch : Nat → Nat → Prop} {h : AH} {h' : AH} (q : Fr ch h h') : a_sl h' = a_sl h := q.2.2.2.1
theorem Fr_fi {ch : Nat → Nat → Prop} {h : AH} {h' : AH} (q : Fr ch h h') : ∀ k a, ¬ ch k a → a_fi h' k a = a_fi h k a := q.2.2.2.2.1
theorem Fr_fl {ch : Nat → Nat → Prop} {h : AH} {h' : AH} (q : Fr ch h h') : ∀ k a, ¬ ch k a → a_fl h' k a = a_fl h k a := q.2.2.2.2.2.1
theorem Fr_fr {ch : Nat → Nat → Prop} {h : AH} {h' : AH} (q : Fr ch h h') : ∀ k a, ¬ ch k a → a_fr h' k a = a_fr h k a := q.2.2.2.2.2.2.1
theorem Fr_ai {ch : Nat → Nat → Prop} {h : AH} {h' : AH} (q : Fr ch h h') : ∀ a, ¬ ch 1000 a → a_ai h' a = a_ai h a := q.2.2.2.2.2.2.2.1
theorem Fr_al {ch : Nat → Nat → Prop} {h : AH} {h' : AH} (q : Fr ch h h') : ∀ a, ¬ ch 1000 a → a_al h' a = a_al h a := q.2.2.2.2.2.2.2.2.1
theorem Fr_ar {ch : Nat → Nat → Prop} {h : AH} {h' : AH} (q : Fr ch h h') : ∀ a, ¬ ch 1000 a → a_ar h' a = a_ar h a := q.2.2.2.2.2.2.2.2.2
theorem Fr_lo {ch : Nat → Nat → Prop} {h h' : AH} (q : Fr ch h h') : a_lo h' = a_lo h := by unfold a_lo; rw [Fr_cs q]
theorem Fr_refl {ch : Nat → Nat → Prop} {h : AH} : Fr ch h h := ⟨rfl, rfl, rfl, rfl, fun _ _ _ => rfl, fun _ _ _ => rfl, fun _ _ _ => rfl, fun _ _ => rfl, fun _ _ => rfl, fun _ _ => rfl⟩
theorem Fr_trans {ch : Nat → Nat → Prop} {h h1 h2 : AH} (p : Fr ch h h1) (q : Fr ch h1 h2) : Fr ch h h2 :=
  ⟨(Fr_cs q).trans (Fr_cs p), (Fr_kd q).trans (Fr_kd p), (Fr_sz q).trans (Fr_sz p), (Fr_sl q).trans (Fr_sl p),
   fun k a n => (Fr_fi q k a n).trans (Fr_fi p k a n), fun k a n => (Fr_fl q k a n).trans (Fr_fl p k a n), fun k a n => (Fr_fr q k a n).trans (Fr_fr p k a n),
   fun a n => (Fr_ai q a n).trans (Fr_ai p a n), fun a n => (Fr_al q a n).trans (Fr_al p a n), fun a n => (Fr_ar q a n).trans (Fr_ar p a n)⟩
theorem Fr_mono {c1 c2 : Nat → Nat → Prop} {h h' : AH} (m : ∀ k a, c1 k a → c2 k a) (p : Fr c1 h h') : Fr c2 h h' :=
  ⟨Fr_cs p, Fr_kd p, Fr_sz p, Fr_sl p, fun k a n => Fr_fi p k a (fun q => n (m _ _ q)), fun k a n => Fr_fl p k a (fun q => n (m _ _ q)), fun k a n => Fr_fr p k a (fun q => n (m _ _ q)), fun a n => Fr_ai p a (fun q => n (m _ _ q)), fun a n => Fr_al p a (fun q => n (m _ _ q)), fun a n => Fr_ar p a (fun q => n (m _ _ q))⟩
section FRS
variable {ch : Nat → Nat → Prop} {h h' : AH} {k a j : Nat} {v : Int32} {w : Int64} {r : Option Nat}
theorem Fr_s_fi (c : ch k a) (p : Fr ch h h') : Fr ch h (s_fi h' k a v) := by
  obtain ⟨p_cs, p_kd, p_sz, p_sl, p_fi, p_fl, p_fr, p_ai, p_al, p_ar⟩ := p
  refine ⟨p_cs, p_kd, p_sz, p_sl, fun k' a' n => ?_, p_fl, p_fr, p_ai, p_al, p_ar⟩
  rw [gs_fi_fi, if_neg (fun q => n (by rw [q.1, q.2]; exact c))]
  exact p_fi _ _ n
theorem Fr_s_fl (c : ch k a) (p : Fr ch h h') : Fr ch h (s_fl h' k a w) := by
  obtain ⟨p_cs, p_kd, p_sz, p_sl, p_fi, p_fl, p_fr, p_ai, p_al, p_ar⟩ := p
  refine ⟨p_cs, p_kd, p_sz, p_sl, p_fi, fun k' a' n => ?_, p_fr, p_ai, p_al, p_ar⟩
  rw [gs_fl_fl, if_neg (fun q => n (by rw [q.1, q.2]; exact c))]
  exact p_fl _ _ n
theorem Fr_s_fr (c : ch k a) (p : Fr ch h h') : Fr ch h (s_fr h' k a r) := by
  obtain ⟨p_cs, p_kd, p_sz, p_sl, p_fi, p_fl, p_fr, p_ai, p_al, p_ar⟩ := p
  refine ⟨p_cs, p_kd, p_sz, p_sl, p_fi, p_fl, fun k' a' n => ?_, p_ai, p_al, p_ar⟩
  rw [gs_fr_fr, if_neg (fun q => n (by rw [q.1, q.2]; exact c))]
  exact p_fr _ _ n
theorem Fr_s_ai (c : ch 1000 a) (p : Fr ch h h') : Fr ch h (s_ai h' a j v) := by
  obtain ⟨p_cs, p_kd, p_sz, p_sl, p_fi, p_fl, p_fr, p_ai, p_al, p_ar⟩ := p
  refine ⟨p_cs, p_kd, p_sz, p_sl, p_fi, p_fl, p_fr, fun a' n => ?_, p_al, p_ar⟩
  rw [← p_ai _ n]
  funext i
  rw [gs_ai_ai, if_neg (fun q => n (by rw [q.1]; exact c))]
theorem Fr_s_al (c : ch 1000 a) (p : Fr ch h h') : Fr ch h (s_al h' a j w) := by
  obtain ⟨p_cs, p_kd, p_sz, p_sl, p_fi, p_fl, p_fr, p_ai, p_al, p_ar⟩ := p
  refine ⟨p_cs, p_kd, p_sz, p_sl, p_fi, p_fl, p_fr, p_ai, fun a' n => ?_, p_ar⟩
  rw [← p_al _ n]
  funext i
  rw [gs_al_al, if_neg (fun q => n (by rw [q.1]; exact c))]
theorem Fr_s_ar (c : ch 1000 a) (p : Fr ch h h') : Fr ch h (s_ar h' a j r) := by
  obtain ⟨p_cs, p_kd, p_sz, p_sl, p_fi, p_fl, p_fr, p_ai, p_al, p_ar⟩ := p
  refine ⟨p_cs, p_kd, p_sz, p_sl, p_fi, p_fl, p_fr, p_ai, p_al, fun a' n => ?_⟩
  rw [← p_ar _ n]
  funext i
  rw [gs_ar_ar, if_neg (fun q => n (by rw [q.1]; exact c))]
theorem Fr_s_cp {b sp dp n : Nat} (c : ch 1000 b) (p : Fr ch h h') : Fr ch h (s_cp h' a sp b dp n) := by
  obtain ⟨p_cs, p_kd, p_sz, p_sl, p_fi, p_fl, p_fr, p_ai, p_al, p_ar⟩ := p
  refine ⟨p_cs, p_kd, p_sz, p_sl, p_fi, p_fl, p_fr, fun a' m => ?_, p_al, p_ar⟩
  rw [← p_ai _ m]
  funext i
  show (if a' = b ∧ dp ≤ i ∧ i < dp + n then _ else _) = _
  rw [if_neg (fun q => m (by rw [q.1]; exact c))]
end FRS
/-! the reference's frames: what a pull's reckoning changes; what any question changes -/
def TO (m : Nat) : Nat → Nat → Prop := fun k a => a = m ∧ 121 ≤ k ∧ k ≤ 124
def TC (m : Nat) : Nat → Nat → Prop := fun k a => a = m ∧ 123 ≤ k ∧ k ≤ 124
def TW (m : Nat) : Nat → Nat → Prop := fun k a => (a = m ∧ (98 ≤ k ∧ k ≤ 100 ∨ 119 ≤ k ∧ k ≤ 124 ∨ 132 ≤ k ∧ k ≤ 133 ∨ 135 ≤ k ∧ k ≤ 136)) ∨ (k = 1000 ∧ m + 5 ≤ a ∧ a ≤ m + 12)
theorem TO_TW {m k a : Nat} (q : TO m k a) : TW m k a := by unfold TO at q; unfold TW; omega
theorem TC_TO {m k a : Nat} (q : TC m k a) : TO m k a := by unfold TC at q; unfold TO; omega
/-- what is not the frame of the reference -/
def TZ (m : Nat) : Nat → Nat → Prop := fun k _ => ¬ (k = 103 ∨ (114 ≤ k ∧ k ≤ 116) ∨ (125 ≤ k ∧ k ≤ 131) ∨ k = 134)
theorem T_S_fz {ch : Nat → Nat → Prop} {h h' : AH} {m : Nat} (hF : Fr ch h h') (hc : ∀ k, ch k m → TZ m k m) (q : T_S h m) : T_S h' m := by
  have e : ∀ k, k = 103 ∨ (114 ≤ k ∧ k ≤ 116) ∨ (125 ≤ k ∧ k ≤ 131) ∨ k = 134 → a_fr h' k m = a_fr h k m := fun k hk => Fr_fr hF k m (fun q => hc k q hk)
  unfold T_S at q ⊢
  simp (disch := omega) only [Fr_kd hF, Fr_lo hF, e]
  exact q
theorem T_S_fr {h h' : AH} {m : Nat} (hF : Fr (TW m) h h') (q : T_S h m) : T_S h' m := T_S_fz hF (fun k => by unfold TW TZ; omega) q
theorem T_K_fz {ch : Nat → Nat → Prop} {h h' : AH} {k : Nat} {K : KN} (hF : Fr ch h h') (hz : ∀ j a, k ≤ a → ¬ ch j a) (q : T_K h k K) : T_K h' k K := by
  have e : ∀ j, a_fr h' j k = a_fr h j k := fun j => Fr_fr hF j k (hz _ _ (by omega))
  have e2 : ∀ j, a_fi h' j k = a_fi h j k := fun j => Fr_fi hF j k (hz _ _ (by omega))
  have e3 : ∀ j, a_ai h' (k + j) = a_ai h (k + j) := fun j => Fr_ai hF (k + j) (hz _ _ (by omega))
  unfold T_K at q ⊢
  simp (disch := omega) only [Fr_kd hF, e, e2, e3]
  exact q
theorem T_K_fr {h h' : AH} {m k : Nat} {K : KN} (hF : Fr (TW m) h h') (hm : m + 13 ≤ k) (q : T_K h k K) : T_K h' k K := T_K_fz hF (fun j a ha => by unfold TW; omega) q
/-- what a pull laid and its reckoning change -/
def TL (m : Nat) : Nat → Nat → Prop := fun k a => (a = m ∧ 119 ≤ k ∧ k ≤ 124) ∨ (k = 1000 ∧ m + 5 ≤ a ∧ a ≤ m + 7)
theorem TL_TW {m k a : Nat} (q : TL m k a) : TW m k a := by unfold TL at q; unfold TW; omega
theorem TO_TL {m k a : Nat} (q : TO m k a) : TL m k a := by unfold TO at q; unfold TL; omega
/-- what leaves a pull laid -/
def TP (m : Nat) : Nat → Nat → Prop := fun k a => (a = m ∧ 121 ≤ k ∧ k ≤ 124) ∨ (k = 1000 ∧ m + 8 ≤ a ∧ a ≤ m + 12)
theorem TO_TP {m k a : Nat} (q : TO m k a) : TP m k a := by unfold TO at q; unfold TP; omega
theorem TP_TW {m k a : Nat} (q : TP m k a) : TW m k a := by unfold TP at q; unfold TW; omega
theorem T_P_fp {h h' : AH} {m k : Nat} {K : KN} {p : PN} (hF : Fr (TP m) h h') (hm : m + 13 ≤ k) (q : T_P h m k K p) : T_P h' m k K p := by
  have hW := Fr_mono (fun _ _ => TP_TW) hF
  have e : ∀ j, j < 121 → a_fr h' j m = a_fr h j m := fun j hj => Fr_fr hF j m (by unfold TP; omega)
  have e2 : ∀ j, j < 121 → a_fi h' j m = a_fi h j m := fun j hj => Fr_fi hF j m (by unfold TP; omega)
  have e3 : ∀ j, j < 8 → a_ai h' (m + j) = a_ai h (m + j) := fun j hj => Fr_ai hF (m + j) (by unfold TP; omega)
  refine ⟨T_S_fr hW (T_P_S q), ?_, T_K_fr hW hm (T_P_K q), T_P_wf q, ?_⟩
  · rw [e _ (by decide)]; exact T_P_kit q
  · simp (disch := omega) only [e2, e3]
    exact q.2.2.2.2
theorem T_P_fr {h h' : AH} {m k : Nat} {K : KN} {p : PN} (hF : Fr (TO m) h h') (hm : m + 13 ≤ k) (q : T_P h m k K p) : T_P h' m k K p := T_P_fp (Fr_mono (fun _ _ => TO_TP) hF) hm q
theorem T_compares {h : AH} {m k : Nat} {K : KN} {p : PN} {f : FW} (hP : T_P h m k K p) (hf : fw_is (a_fi h 121 m) (a_fi h 122 m) f) {a j b i : Nat} (ha : a < 2) (hj : j < kSize K (pB p) a) (hb : b < 2) (hi : i < kSize K (pB p) b) (h1 : 0 < sStrain K p a j) (h2 : 0 < sStrain K p b i) :
    ∃ c, F_X8_compares [.ref m, .int (nI a), .int (nI j), .int (nI b), .int (nI i)] h = some (.inl (some (.long c)), h) ∧ lg_cmp c (lN 0) = if sL K p f b i a j < sL K p f a j b i then nI 1 else if sL K p f a j b i = sL K p f b i a j then nI 0 else m1 := by
  have hS := T_P_S hP
  have hw := T_P_wf hP
  have hK := P_wf_K hw
  have s1 := W_b_size (K_wf_b hK _ (P_wf_b hw)) a ha
  have s2 := W_b_size (K_wf_b hK _ (P_wf_b hw)) b hb
  have q1 := sStr_le (f := f) (w := pW p a) hw ha hj
  have q2 := sStr_le (f := f) (w := pW p b) hw hb hi
  have q3 := sStrain_le (j := j) hw ha
  have q4 := sStrain_le (j := i) hw hb
  have m1 : sL K p f a j b i ≤ 579 * 639 := Nat.mul_le_mul q3 q2
  have m2 : sL K p f b i a j ≤ 579 * 639 := Nat.mul_le_mul q4 q1
  rw [ent_X8_compares]
  by_cases z1 : sStr K p f (pW p a) a j = 0
  · have e1 : sL K p f b i a j = 0 := by unfold sL; rw [z1]; rfl
    by_cases z2 : sStr K p f (pW p b) b i = 0
    · have e2 : sL K p f a j b i = 0 := by unfold sL; rw [z2]; rfl
      refine ⟨lN 0, ?_, ?_⟩
      · simp (disch := omega) only [e_g_ild, e_ild, e_g_lld, e_lld, e_g_ald, e_g_ald0, e_ald, e_g_iinc, e_iinc, e_push, e_ist, e_lst, e_ast, e_ast0, e_i2, e_i2d, e_i1, e_l1, e_l2, e_l2d, e_li, e_i2l, e_l2i, e_lcmp, e_dup, e_pop, e_dup2, e_ieq, e_ine, e_ilt, e_ige, e_igt, e_ile, e_ceq, e_cne, e_clt, e_cge, e_cgt, e_cle, e_ifn, e_ifn0, e_ifnn, e_ifnn0, e_aeq, e_ane, e_sw, e_sw0, e_sw1, e_gfi, e_gfl, e_gfr, e_pfi, e_pfl, e_pfr, e_pfr0, e_iald, e_lald, e_aald, e_aald2, e_iast, e_last, e_aast, e_alen, e_newa, e_new, e_mk0, e_oinit, e_ldcs, e_gst, e_cast, e_cast0, e_inst, e_inst0, e_g_c1, e_g_c2, e_g_c3, e_call, e_kd, e_rcv, e_copy, e_throw, e_iret, e_lret, e_aret, e_aret0, e_vret, e_catch, e_out, e_back, e_exit, e_kexit, e_w_cl, e_w_fi, e_w_fl, e_w_fr, e_w_ai, e_w_al, e_w_ar, e_w_cp, e_w_nw, e_w_kx, e_w_fin, g_if_t, g_if_f, g_if_t2, g_if_f2, g_if_n, f_if_t, f_if_f, f_or2_f, f_or2_t, f_or3_s, e_m2i, e_m2l, e_m1l, e_csum0, e_csum1, l_st1, l_st2, l_clr, List.getElem?_cons_zero, List.getElem?_cons_succ, List.set_cons_zero, List.set_cons_succ, List.take_succ_cons, List.take_zero, List.drop_succ_cons, List.drop_zero, List.reverse_cons, List.reverse_nil, List.nil_append, List.cons_append, List.length_cons, List.length_nil, List.map_cons, List.map_nil, List.sum_cons, List.sum_nil, List.mem_cons, List.not_mem_nil, or_false, false_or, or_true, true_or, and_true, true_and, and_false, false_and, not_true_eq_false, not_false_eq_true, Value.category, Option.map_some, Option.map_none, va_rf_some, va_rf_none, p_ok_int, reduceCtorEq, if_true, if_false, Nat.reduceAdd, Nat.reduceSub, Nat.reduceMul, Nat.reduceLeDiff, ↓Nat.reduceEqDiff, ↓reduceIte, Nat.reduceDiv, Nat.reduceMod, Nat.zero_add, Nat.add_zero, Nat.add_left_cancel_iff, Nat.add_right_cancel_iff, Nat.add_eq_left, Nat.left_eq_add, isb_0, isb_1, isb_p, isb_T, isb_F, ↓nI_m1, ↓nI_m2, nI_c0, nI_c1, nI_c2, nI_c3, nI_c4, nI_c5, nI_c6, nI_c7, nI_c8, nI_c9, nI_c10, nI_c11, nI_c12, nI_c13, nI_c15, nI_c16, nI_c17, nI_c18, nI_c20, nI_c24, nI_c25, nI_c31, nI_c32, nI_c44, nI_c48, nI_c54, nI_c57, nI_c59, nI_c60, nI_c63, nI_c74, nI_c75, nI_c97, nI_c99, nI_c100, nI_c122, nI_c144, nI_c200, nI_c255, nI_c270, nI_c288, nI_c1000, nI_c65536, nI_c65537, nI_c1000000, nI_add, pk_mul, pk_sub, nI_clamp, b_in_nI, nI_eq_, nI_le_, nI_lt_, nI_div_, nI_rem_, n_rem, nI_sr, lN_sr, nI_if0, nI_if1, m1_e, m1_e3, m1_e4, m1_l1, m1_l2, m1_l3, m1_l4, m2_e1, m2_e2, m2_m1, m1_m2, p_ok_b, p_ok_b0, p_ok_b1, ↓lN_m1, lN_c0, lN_c1, lN_c2, lN_c20, lN_c32, lN_c74, lN_c75, lN_c100, lN_c200, lN_c65537, lN_add, lN_mul, lN_sub, lN_le_, lN_lt_, lN_eq_, lN_div_, lN_rem_, nI_l_, m1_l, lg_sub, lg_lN, lg_m1, lg_m1', lg_m1_m1, lg_m1r, nI3_le, nI3_e0, nI3_ge, nI3_gt, nI3_lt, nI2_le, nI2_e0, nI2_ge, nI2_gt, nI2_lt, nI4_le, nI4_e0, nI4_ge, nI4_gt, nI4_lt, nI5_le, nI5_e0, nI5_ge, nI5_gt, nI5_lt, o_le_t, o_le_f, o_lt_t, o_lt_f, o_eq_t, o_eq_f, gs_cs_fi, gs_kd_fi, gs_fi_fi, gs_fl_fi, gs_fr_fi, gs_ai_fi, gs_al_fi, gs_ar_fi, gs_sz_fi, gs_sl_fi, gs_cs_fl, gs_kd_fl, gs_fi_fl, gs_fl_fl, gs_fr_fl, gs_ai_fl, gs_al_fl, gs_ar_fl, gs_sz_fl, gs_sl_fl, gs_cs_fr, gs_kd_fr, gs_fi_fr, gs_fl_fr, gs_fr_fr, gs_ai_fr, gs_al_fr, gs_ar_fr, gs_sz_fr, gs_sl_fr, gs_cs_ai, gs_kd_ai, gs_fi_ai, gs_fl_ai, gs_fr_ai, gs_ai_ai, gs_al_ai, gs_ar_ai, gs_sz_ai, gs_sl_ai, gs_cs_al, gs_kd_al, gs_fi_al, gs_fl_al, gs_fr_al, gs_ai_al, gs_al_al, gs_ar_al, gs_sz_al, gs_sl_al, gs_cs_ar, gs_kd_ar, gs_fi_ar, gs_fl_ar, gs_fr_ar, gs_ai_ar, gs_al_ar, gs_ar_ar, gs_sz_ar, gs_sl_ar, gs_cs_n, gs_kd_n, gs_fi_n, gs_fl_n, gs_fr_n, gs_ai_n, gs_al_n, gs_ar_n, gs_sz_n, gs_sl_n, gs_lo_fi, gs_lo_fl, gs_lo_fr, gs_lo_ai, gs_lo_al, gs_lo_ar, gs_lo_n, e_X8_compares_b45, e_X8_compares_b33, e_X8_compares_b0, T_S_kd hS, T_strengthAt hP hf, z1, z2]
      · rw [e1, e2]; decide
    · have e2 : 0 < sL K p f a j b i := Nat.mul_pos h1 (by omega)
      refine ⟨lN 1, ?_, ?_⟩
      · simp (disch := omega) only [e_g_ild, e_ild, e_g_lld, e_lld, e_g_ald, e_g_ald0, e_ald, e_g_iinc, e_iinc, e_push, e_ist, e_lst, e_ast, e_ast0, e_i2, e_i2d, e_i1, e_l1, e_l2, e_l2d, e_li, e_i2l, e_l2i, e_lcmp, e_dup, e_pop, e_dup2, e_ieq, e_ine, e_ilt, e_ige, e_igt, e_ile, e_ceq, e_cne, e_clt, e_cge, e_cgt, e_cle, e_ifn, e_ifn0, e_ifnn, e_ifnn0, e_aeq, e_ane, e_sw, e_sw0, e_sw1, e_gfi, e_gfl, e_gfr, e_pfi, e_pfl, e_pfr, e_pfr0, e_iald, e_lald, e_aald, e_aald2, e_iast, e_last, e_aast, e_alen, e_newa, e_new, e_mk0, e_oinit, e_ldcs, e_gst, e_cast, e_cast0, e_inst, e_inst0, e_g_c1, e_g_c2, e_g_c3, e_call, e_kd, e_rcv, e_copy, e_throw, e_iret, e_lret, e_aret, e_aret0, e_vret, e_catch, e_out, e_back, e_exit, e_kexit, e_w_cl, e_w_fi, e_w_fl, e_w_fr, e_w_ai, e_w_al, e_w_ar, e_w_cp, e_w_nw, e_w_kx, e_w_fin, g_if_t, g_if_f, g_if_t2, g_if_f2, g_if_n, f_if_t, f_if_f, f_or2_f, f_or2_t, f_or3_s, e_m2i, e_m2l, e_m1l, e_csum0, e_csum1, l_st1, l_st2, l_clr, List.getElem?_cons_zero, List.getElem?_cons_succ, List.set_cons_zero, List.set_cons_succ, List.take_succ_cons, List.take_zero, List.drop_succ_cons, List.drop_zero, List.reverse_cons, List.reverse_nil, List.nil_append, List.cons_append, List.length_cons, List.length_nil, List.map_cons, List.map_nil, List.sum_cons, List.sum_nil, List.mem_cons, List.not_mem_nil, or_false, false_or, or_true, true_or, and_true, true_and, and_false, false_and, not_true_eq_false, not_false_eq_true, Value.category, Option.map_some, Option.map_none, va_rf_some, va_rf_none, p_ok_int, reduceCtorEq, if_true, if_false, Nat.reduceAdd, Nat.reduceSub, Nat.reduceMul, Nat.reduceLeDiff, ↓Nat.reduceEqDiff, ↓reduceIte, Nat.reduceDiv, Nat.reduceMod, Nat.zero_add, Nat.add_zero, Nat.add_left_cancel_iff, Nat.add_right_cancel_iff, Nat.add_eq_left, Nat.left_eq_add, isb_0, isb_1, isb_p, isb_T, isb_F, ↓nI_m1, ↓nI_m2, nI_c0, nI_c1, nI_c2, nI_c3, nI_c4, nI_c5, nI_c6, nI_c7, nI_c8, nI_c9, nI_c10, nI_c11, nI_c12, nI_c13, nI_c15, nI_c16, nI_c17, nI_c18, nI_c20, nI_c24, nI_c25, nI_c31, nI_c32, nI_c44, nI_c48, nI_c54, nI_c57, nI_c59, nI_c60, nI_c63, nI_c74, nI_c75, nI_c97, nI_c99, nI_c100, nI_c122, nI_c144, nI_c200, nI_c255, nI_c270, nI_c288, nI_c1000, nI_c65536, nI_c65537, nI_c1000000, nI_add, pk_mul, pk_sub, nI_clamp, b_in_nI, nI_eq_, nI_le_, nI_lt_, nI_div_, nI_rem_, n_rem, nI_sr, lN_sr, nI_if0, nI_if1, m1_e, m1_e3, m1_e4, m1_l1, m1_l2, m1_l3, m1_l4, m2_e1, m2_e2, m2_m1, m1_m2, p_ok_b, p_ok_b0, p_ok_b1, ↓lN_m1, lN_c0, lN_c1, lN_c2, lN_c20, lN_c32, lN_c74, lN_c75, lN_c100, lN_c200, lN_c65537, lN_add, lN_mul, lN_sub, lN_le_, lN_lt_, lN_eq_, lN_div_, lN_rem_, nI_l_, m1_l, lg_sub, lg_lN, lg_m1, lg_m1', lg_m1_m1, lg_m1r, nI3_le, nI3_e0, nI3_ge, nI3_gt, nI3_lt, nI2_le, nI2_e0, nI2_ge, nI2_gt, nI2_lt, nI4_le, nI4_e0, nI4_ge, nI4_gt, nI4_lt, nI5_le, nI5_e0, nI5_ge, nI5_gt, nI5_lt, o_le_t, o_le_f, o_lt_t, o_lt_f, o_eq_t, o_eq_f, gs_cs_fi, gs_kd_fi, gs_fi_fi, gs_fl_fi, gs_fr_fi, gs_ai_fi, gs_al_fi, gs_ar_fi, gs_sz_fi, gs_sl_fi, gs_cs_fl, gs_kd_fl, gs_fi_fl, gs_fl_fl, gs_fr_fl, gs_ai_fl, gs_al_fl, gs_ar_fl, gs_sz_fl, gs_sl_fl, gs_cs_fr, gs_kd_fr, gs_fi_fr, gs_fl_fr, gs_fr_fr, gs_ai_fr, gs_al_fr, gs_ar_fr, gs_sz_fr, gs_sl_fr, gs_cs_ai, gs_kd_ai, gs_fi_ai, gs_fl_ai, gs_fr_ai, gs_ai_ai, gs_al_ai, gs_ar_ai, gs_sz_ai, gs_sl_ai, gs_cs_al, gs_kd_al, gs_fi_al, gs_fl_al, gs_fr_al, gs_ai_al, gs_al_al, gs_ar_al, gs_sz_al, gs_sl_al, gs_cs_ar, gs_kd_ar, gs_fi_ar, gs_fl_ar, gs_fr_ar, gs_ai_ar, gs_al_ar, gs_ar_ar, gs_sz_ar, gs_sl_ar, gs_cs_n, gs_kd_n, gs_fi_n, gs_fl_n, gs_fr_n, gs_ai_n, gs_al_n, gs_ar_n, gs_sz_n, gs_sl_n, gs_lo_fi, gs_lo_fl, gs_lo_fr, gs_lo_ai, gs_lo_al, gs_lo_ar, gs_lo_n, e_X8_compares_b45, e_X8_compares_b33, e_X8_compares_b0, T_S_kd hS, T_strengthAt hP hf, z1, z2]
      · rw [e1, if_pos e2]; decide
  · have e1 : 0 < sL K p f b i a j := Nat.mul_pos h2 (by omega)
    by_cases z2 : sStr K p f (pW p b) b i = 0
    · have e2 : sL K p f a j b i = 0 := by unfold sL; rw [z2]; rfl
      refine ⟨lN 0 - lN 1, ?_, ?_⟩
      · simp (disch := omega) only [e_g_ild, e_ild, e_g_lld, e_lld, e_g_ald, e_g_ald0, e_ald, e_g_iinc, e_iinc, e_push, e_ist, e_lst, e_ast, e_ast0, e_i2, e_i2d, e_i1, e_l1, e_l2, e_l2d, e_li, e_i2l, e_l2i, e_lcmp, e_dup, e_pop, e_dup2, e_ieq, e_ine, e_ilt, e_ige, e_igt, e_ile, e_ceq, e_cne, e_clt, e_cge, e_cgt, e_cle, e_ifn, e_ifn0, e_ifnn, e_ifnn0, e_aeq, e_ane, e_sw, e_sw0, e_sw1, e_gfi, e_gfl, e_gfr, e_pfi, e_pfl, e_pfr, e_pfr0, e_iald, e_lald, e_aald, e_aald2, e_iast, e_last, e_aast, e_alen, e_newa, e_new, e_mk0, e_oinit, e_ldcs, e_gst, e_cast, e_cast0, e_inst, e_inst0, e_g_c1, e_g_c2, e_g_c3, e_call, e_kd, e_rcv, e_copy, e_throw, e_iret, e_lret, e_aret, e_aret0, e_vret, e_catch, e_out, e_back, e_exit, e_kexit, e_w_cl, e_w_fi, e_w_fl, e_w_fr, e_w_ai, e_w_al, e_w_ar, e_w_cp, e_w_nw, e_w_kx, e_w_fin, g_if_t, g_if_f, g_if_t2, g_if_f2, g_if_n, f_if_t, f_if_f, f_or2_f, f_or2_t, f_or3_s, e_m2i, e_m2l, e_m1l, e_csum0, e_csum1, l_st1, l_st2, l_clr, List.getElem?_cons_zero, List.getElem?_cons_succ, List.set_cons_zero, List.set_cons_succ, List.take_succ_cons, List.take_zero, List.drop_succ_cons, List.drop_zero, List.reverse_cons, List.reverse_nil, List.nil_append, List.cons_append, List.length_cons, List.length_nil, List.map_cons, List.map_nil, List.sum_cons, List.sum_nil, List.mem_cons, List.not_mem_nil, or_false, false_or, or_true, true_or, and_true, true_and, and_false, false_and, not_true_eq_false, not_false_eq_true, Value.category, Option.map_some, Option.map_none, va_rf_some, va_rf_none, p_ok_int, reduceCtorEq, if_true, if_false, Nat.reduceAdd, Nat.reduceSub, Nat.reduceMul, Nat.reduceLeDiff, ↓Nat.reduceEqDiff, ↓reduceIte, Nat.reduceDiv, Nat.reduceMod, Nat.zero_add, Nat.add_zero, Nat.add_left_cancel_iff, Nat.add_right_cancel_iff, Nat.add_eq_left, Nat.left_eq_add, isb_0, isb_1, isb_p, isb_T, isb_F, ↓nI_m1, ↓nI_m2, nI_c0, nI_c1, nI_c2, nI_c3, nI_c4, nI_c5, nI_c6, nI_c7, nI_c8, nI_c9, nI_c10, nI_c11, nI_c12, nI_c13, nI_c15, nI_c16, nI_c17, nI_c18, nI_c20, nI_c24, nI_c25, nI_c31, nI_c32, nI_c44, nI_c48, nI_c54, nI_c57, nI_c59, nI_c60, nI_c63, nI_c74, nI_c75, nI_c97, nI_c99, nI_c100, nI_c122, nI_c144, nI_c200, nI_c255, nI_c270, nI_c288, nI_c1000, nI_c65536, nI_c65537, nI_c1000000, nI_add, pk_mul, pk_sub, nI_clamp, b_in_nI, nI_eq_, nI_le_, nI_lt_, nI_div_, nI_rem_, n_rem, nI_sr, lN_sr, nI_if0, nI_if1, m1_e, m1_e3, m1_e4, m1_l1, m1_l2, m1_l3, m1_l4, m2_e1, m2_e2, m2_m1, m1_m2, p_ok_b, p_ok_b0, p_ok_b1, ↓lN_m1, lN_c0, lN_c1, lN_c2, lN_c20, lN_c32, lN_c74, lN_c75, lN_c100, lN_c200, lN_c65537, lN_add, lN_mul, lN_sub, lN_le_, lN_lt_, lN_eq_, lN_div_, lN_rem_, nI_l_, m1_l, lg_sub, lg_lN, lg_m1, lg_m1', lg_m1_m1, lg_m1r, nI3_le, nI3_e0, nI3_ge, nI3_gt, nI3_lt, nI2_le, nI2_e0, nI2_ge, nI2_gt, nI2_lt, nI4_le, nI4_e0, nI4_ge, nI4_gt, nI4_lt, nI5_le, nI5_e0, nI5_ge, nI5_gt, nI5_lt, o_le_t, o_le_f, o_lt_t, o_lt_f, o_eq_t, o_eq_f, gs_cs_fi, gs_kd_fi, gs_fi_fi, gs_fl_fi, gs_fr_fi, gs_ai_fi, gs_al_fi, gs_ar_fi, gs_sz_fi, gs_sl_fi, gs_cs_fl, gs_kd_fl, gs_fi_fl, gs_fl_fl, gs_fr_fl, gs_ai_fl, gs_al_fl, gs_ar_fl, gs_sz_fl, gs_sl_fl, gs_cs_fr, gs_kd_fr, gs_fi_fr, gs_fl_fr, gs_fr_fr, gs_ai_fr, gs_al_fr, gs_ar_fr, gs_sz_fr, gs_sl_fr, gs_cs_ai, gs_kd_ai, gs_fi_ai, gs_fl_ai, gs_fr_ai, gs_ai_ai, gs_al_ai, gs_ar_ai, gs_sz_ai, gs_sl_ai, gs_cs_al, gs_kd_al, gs_fi_al, gs_fl_al, gs_fr_al, gs_ai_al, gs_al_al, gs_ar_al, gs_sz_al, gs_sl_al, gs_cs_ar, gs_kd_ar, gs_fi_ar, gs_fl_ar, gs_fr_ar, gs_ai_ar, gs_al_ar, gs_ar_ar, gs_sz_ar, gs_sl_ar, gs_cs_n, gs_kd_n, gs_fi_n, gs_fl_n, gs_fr_n, gs_ai_n, gs_al_n, gs_ar_n, gs_sz_n, gs_sl_n, gs_lo_fi, gs_lo_fl, gs_lo_fr, gs_lo_ai, gs_lo_al, gs_lo_ar, gs_lo_n, e_X8_compares_b45, e_X8_compares_b33, e_X8_compares_b0, T_S_kd hS, T_strengthAt hP hf, z1, z2]
      · rw [e2, if_neg (by omega), if_neg (by omega)]; decide
    · refine ⟨lN (sL K p f a j b i) - lN (sL K p f b i a j), ?_, lg_sub (by omega) (by omega)⟩
      simp (disch := omega) only [e_g_ild, e_ild, e_g_lld, e_lld, e_g_ald, e_g_ald0, e_ald, e_g_iinc, e_iinc, e_push, e_ist, e_lst, e_ast, e_ast0, e_i2, e_i2d, e_i1, e_l1, e_l2, e_l2d, e_li, e_i2l, e_l2i, e_lcmp, e_dup, e_pop, e_dup2, e_ieq, e_ine, e_ilt, e_ige, e_igt, e_ile, e_ceq, e_cne, e_clt, e_cge, e_cgt, e_cle, e_ifn, e_ifn0, e_ifnn, e_ifnn0, e_aeq, e_ane, e_sw, e_sw0, e_sw1, e_gfi, e_gfl, e_gfr, e_pfi, e_pfl, e_pfr, e_pfr0, e_iald, e_lald, e_aald, e_aald2, e_iast, e_last, e_aast, e_alen, e_newa, e_new, e_mk0, e_oinit, e_ldcs, e_gst, e_cast, e_cast0, e_inst, e_inst0, e_g_c1, e_g_c2, e_g_c3, e_call, e_kd, e_rcv, e_copy, e_throw, e_iret, e_lret, e_aret, e_aret0, e_vret, e_catch, e_out, e_back, e_exit, e_kexit, e_w_cl, e_w_fi, e_w_fl, e_w_fr, e_w_ai, e_w_al, e_w_ar, e_w_cp, e_w_nw, e_w_kx, e_w_fin, g_if_t, g_if_f, g_if_t2, g_if_f2, g_if_n, f_if_t, f_if_f, f_or2_f, f_or2_t, f_or3_s, e_m2i, e_m2l, e_m1l, e_csum0, e_csum1, l_st1, l_st2, l_clr, List.getElem?_cons_zero, List.getElem?_cons_succ, List.set_cons_zero, List.set_cons_succ, List.take_succ_cons, List.take_zero, List.drop_succ_cons, List.drop_zero, List.reverse_cons, List.reverse_nil, List.nil_append, List.cons_append, List.length_cons, List.length_nil, List.map_cons, List.map_nil, List.sum_cons, List.sum_nil, List.mem_cons, List.not_mem_nil, or_false, false_or, or_true, true_or, and_true, true_and, and_false, false_and, not_true_eq_false, not_false_eq_true, Value.category, Option.map_some, Option.map_none, va_rf_some, va_rf_none, p_ok_int, reduceCtorEq, if_true, if_false, Nat.reduceAdd, Nat.reduceSub, Nat.reduceMul, Nat.reduceLeDiff, ↓Nat.reduceEqDiff, ↓reduceIte, Nat.reduceDiv, Nat.reduceMod, Nat.zero_add, Nat.add_zero, Nat.add_left_cancel_iff, Nat.add_right_cancel_iff, Nat.add_eq_left, Nat.left_eq_add, isb_0, isb_1, isb_p, isb_T, isb_F, ↓nI_m1, ↓nI_m2, nI_c0, nI_c1, nI_c2, nI_c3, nI_c4, nI_c5, nI_c6, nI_c7, nI_c8, nI_c9, nI_c10, nI_c11, nI_c12, nI_c13, nI_c15, nI_c16, nI_c17, nI_c18, nI_c20, nI_c24, nI_c25, nI_c31, nI_c32, nI_c44, nI_c48, nI_c54, nI_c57, nI_c59, nI_c60, nI_c63, nI_c74, nI_c75, nI_c97, nI_c99, nI_c100, nI_c122, nI_c144, nI_c200, nI_c255, nI_c270, nI_c288, nI_c1000, nI_c65536, nI_c65537, nI_c1000000, nI_add, pk_mul, pk_sub, nI_clamp, b_in_nI, nI_eq_, nI_le_, nI_lt_, nI_div_, nI_rem_, n_rem, nI_sr, lN_sr, nI_if0, nI_if1, m1_e, m1_e3, m1_e4, m1_l1, m1_l2, m1_l3, m1_l4, m2_e1, m2_e2, m2_m1, m1_m2, p_ok_b, p_ok_b0, p_ok_b1, ↓lN_m1, lN_c0, lN_c1, lN_c2, lN_c20, lN_c32, lN_c74, lN_c75, lN_c100, lN_c200, lN_c65537, lN_add, lN_mul, lN_sub, lN_le_, lN_lt_, lN_eq_, lN_div_, lN_rem_, nI_l_, m1_l, lg_sub, lg_lN, lg_m1, lg_m1', lg_m1_m1, lg_m1r, nI3_le, nI3_e0, nI3_ge, nI3_gt, nI3_lt, nI2_le, nI2_e0, nI2_ge, nI2_gt, nI2_lt, nI4_le, nI4_e0, nI4_ge, nI4_gt, nI4_lt, nI5_le, nI5_e0, nI5_ge, nI5_gt, nI5_lt, o_le_t, o_le_f, o_lt_t, o_lt_f, o_eq_t, o_eq_f, gs_cs_fi, gs_kd_fi, gs_fi_fi, gs_fl_fi, gs_fr_fi, gs_ai_fi, gs_al_fi, gs_ar_fi, gs_sz_fi, gs_sl_fi, gs_cs_fl, gs_kd_fl, gs_fi_fl, gs_fl_fl, gs_fr_fl, gs_ai_fl, gs_al_fl, gs_ar_fl, gs_sz_fl, gs_sl_fl, gs_cs_fr, gs_kd_fr, gs_fi_fr, gs_fl_fr, gs_fr_fr, gs_ai_fr, gs_al_fr, gs_ar_fr, gs_sz_fr, gs_sl_fr, gs_cs_ai, gs_kd_ai, gs_fi_ai, gs_fl_ai, gs_fr_ai, gs_ai_ai, gs_al_ai, gs_ar_ai, gs_sz_ai, gs_sl_ai, gs_cs_al, gs_kd_al, gs_fi_al, gs_fl_al, gs_fr_al, gs_ai_al, gs_al_al, gs_ar_al, gs_sz_al, gs_sl_al, gs_cs_ar, gs_kd_ar, gs_fi_ar, gs_fl_ar, gs_fr_ar, gs_ai_ar, gs_al_ar, gs_ar_ar, gs_sz_ar, gs_sl_ar, gs_cs_n, gs_kd_n, gs_fi_n, gs_fl_n, gs_fr_n, gs_ai_n, gs_al_n, gs_ar_n, gs_sz_n, gs_sl_n, gs_lo_fi, gs_lo_fl, gs_lo_fr, gs_lo_ai, gs_lo_al, gs_lo_ar, gs_lo_n, e_X8_compares_b45, e_X8_compares_b33, e_X8_compares_b0, T_S_kd hS, T_strengthAt hP hf, T_strainAt hP, z1, z2, sL]
