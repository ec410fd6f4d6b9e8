section HU
variable {R : Type} {M : MM} {pc : Nat} {sz : R → Nat × Nat} {K : XX → R → Prop} {k : KK R}
def N_ok (C : String) (t : Nat) : Prop := ∃ (ci : Nat) (q : vw_C), t = ci + 10 ∧ CLS[ci]? = some q ∧ (q.1, C) ∈ NCS
theorem BS_inst {idx : Nat} {C : String} {yes no : List Nat} (hd : decode (m_c M) pc = .ok (.instanceof idx, 3)) (hcl : Cond.classLink (m_y M).cls idx C ∈ lw_all) (hT : T_in C) (hA : ∀ u ∈ yes, A_ok C u) (hN : ∀ u ∈ no, N_ok C u) (hk : B_S M (pc + 3) k sz K) : B_S M pc (op_inst yes no k) sz K := by
  intro L S h r e
  unfold op_inst at e
  split at e
  · split at e
    · rename_i a S' hm
      obtain ⟨e1, e2⟩ := hk _ _ _ _ e
      refine ⟨e1, fun X hC h1 h2 h3 H locs cells slots ls hR hS hc hs hl => ?_⟩
      obtain ⟨cellV, kV, v1, v2, v3, v4⟩ := (hA _ hm).asg hC.kf hR rfl
      obtain ⟨t0, ht0⟩ := hT.find hC.kf
      exact va_Winst hC.exec hC.code hC.own (hC.hts _ hcl) v1 v2 ht0 (v4 _ ht0) hd (e2 X hC h1 h2 h3 H locs cells slots ls hR hS hc hs hl)
    · split at e
      · rename_i a S' hm0 hm
        obtain ⟨e1, e2⟩ := hk _ _ _ _ e
        refine ⟨e1, fun X hC h1 h2 h3 H locs cells slots ls hR hS hc hs hl => ?_⟩
        obtain ⟨ci, q, hq1, hq2, hq3⟩ := hN _ hm
        exact va_instNo hC.exec hC.code hC.own (hC.hts _ hcl) (hC.kf.2.2.2.2.2.2.2.1 _ hq3) (rcv_of hC hR hq2 hq1) hd (e2 X hC h1 h2 h3 H locs cells slots ls hR hS hc hs hl)
      · cases e
  · obtain ⟨e1, e2⟩ := hk _ _ _ _ e
    refine ⟨e1, fun X hC h1 h2 h3 H locs cells slots ls hR hS hc hs hl => ?_⟩
    exact lv_instN hC.exec hC.code hd (e2 X hC h1 h2 h3 H locs cells slots ls hR hS hc hs hl)
  · cases e
/-- Object's constructor -/
theorem BS_oinit {idx : Nat} (hd : decode (m_c M) pc = .ok (.invokespecial idx, 3)) (hl1 : Cond.methodLink (m_y M).cls idx Lib.objectInit ∈ lw_all) (hl2 : Cond.instanceMethod Lib.objectInit ∈ lw_all) (hl3 : Cond.code Lib.objectInit ⟨#[0xb1]⟩ 1 none ∈ lw_all) (hf : 1 ≤ m_f M) (hlo : 52 ≤ m_l M) (hk : B_S M (pc + 3) k sz K) : B_S M pc (op_oinit k) sz K := by
  intro L S h r e
  unfold op_oinit at e
  split at e
  · split at e
    · rename_i a S' hm
      obtain ⟨e1, e2⟩ := hk _ _ _ _ e
      refine ⟨e1, fun X hC h1 h2 h3 H locs cells slots ls hR hS hc hs hl => ?_⟩
      exact W.objInit hC.exec hC.code hC.own (hC.hts _ hl1) (hC.hts _ hl2) (hC.hts _ hl3) rfl (by rw [hC.maxL]; exact hl.1) rfl hd (by rw [hC.frames]; exact hf) (by rw [hC.locals]; show 2 * 0 + c_sum S' + 12 ≤ _; omega) (e2 X hC h1 h2 h3 H locs cells slots ls hR hS hc hs hl)
    · cases e
  · cases e
/-! switches -/
def sw_ok (M : MM) (pc : Nat) (sz : R → Nat × Nat) (K : XX → R → Prop) : List (Int32 × KK R) → List (Int × Int) → Prop
  | [], [] => True
  | c :: cs, o :: os => c.1.toInt = o.1 ∧ (∃ tgt : Nat, (pc : Int) + o.2 = (tgt : Int) ∧ B_S M tgt c.2 sz K) ∧ sw_ok M pc sz K cs os
  | _, _ => False
theorem sw_off {x : Int32} {d : KK R} {dflt : Int} {td : Nat} (hdt : (pc : Int) + dflt = (td : Int)) (hkd : B_S M td d sz K) : ∀ (cs : List (Int32 × KK R)) (os : List (Int × Int)), sw_ok M pc sz K cs os → ∃ (off : Int) (tgt : Nat), Op.lookupswitch.offset os dflt x.toInt = off ∧ (pc : Int) + off = (tgt : Int) ∧ B_S M tgt (sw_to x cs d) sz K
  | [], [], _ => ⟨dflt, td, by rw [Op.lookupswitch.offset_nil], hdt, hkd⟩
  | c :: cs, o :: os, hq => by
    obtain ⟨e1, ⟨tgt, e2, e3⟩, e4⟩ := hq
    by_cases hx : x = c.1
    · refine ⟨o.2, tgt, ?_, e2, ?_⟩
      · rw [show o = (o.1, o.2) from rfl, Op.lookupswitch.offset_cons, if_pos (by rw [hx]; exact e1.symm)]
      · unfold sw_to
        rw [if_pos hx]
        exact e3
    · obtain ⟨off, t2, f1, f2, f3⟩ := sw_off hdt hkd cs os e4
      refine ⟨off, t2, ?_, f2, ?_⟩
      · rw [show o = (o.1, o.2) from rfl, Op.lookupswitch.offset_cons, if_neg, f1]
        intro q
        exact hx (Int32.toInt_inj.mp (q.symm.trans e1.symm))
      · unfold sw_to
        rw [if_neg hx]
        exact f3
  | [], _ :: _, hq => hq.elim
  | _ :: _, [], hq => hq.elim
theorem BS_lsw {dflt : Int} {ps : Array (Int × Int)} {len td : Nat} {cs : List (Int32 × KK R)} {d : KK R} (hd : decode (m_c M) pc = .ok (.lookupswitch dflt ps, len)) (hp : (ps.toList.zip (ps.toList.drop 1)).all (fun (a, next) => a.1 < next.1) = true) (hdt : (pc : Int) + dflt = (td : Int)) (hkd : B_S M td d sz K) (hcs : sw_ok M pc sz K cs ps.toList) : B_S M pc (op_sw cs d) sz K := by
  intro L S h r e
  unfold op_sw at e
  split at e
  · rename_i x S'
    obtain ⟨off, tgt, f1, f2, f3⟩ := sw_off (x := x) hdt hkd cs ps.toList hcs
    obtain ⟨e1, e2⟩ := f3 _ _ _ _ e
    exact ⟨e1, fun X hC h1 h2 h3 H locs cells slots ls hR hS hc hs hl => lv_lookup hC.exec hC.code hd hp f1 f2 (e2 X hC h1 h2 h3 H locs cells slots ls hR hS hc hs hl)⟩
  · cases e
theorem ts_off (lo dflt x : Int) : ∀ (offs : List Int) (k : Nat), Op.lookupswitch.offset ((offs.zipIdx k).map fun q => (lo + (q.2 : Int), q.1)) dflt x = if lo + k ≤ x ∧ x < lo + k + offs.length then offs.getD (x - lo - k).toNat dflt else dflt
  | [], k => by
    rw [if_neg (by simp only [List.length_nil]; omega)]
    simp [Op.lookupswitch.offset_nil]
  | o :: os, k => by
    have ih := ts_off lo dflt x os (k + 1)
    rw [List.zipIdx_cons, List.map_cons, Op.lookupswitch.offset_cons, ih]
    dsimp only
    by_cases hx : lo + (k : Int) = x
    · rw [if_pos hx, if_pos (by simp only [List.length_cons]; omega)]
      rw [show (x - lo - k).toNat = 0 by omega]
      rfl
    · rw [if_neg hx]
      by_cases hr : lo + ((k + 1 : Nat) : Int) ≤ x ∧ x < lo + ((k + 1 : Nat) : Int) + (os.length : Int)
      · rw [if_pos hr, if_pos (by simp only [List.length_cons]; omega)]
        rw [show (x - lo - k).toNat = (x - lo - ((k + 1 : Nat) : Int)).toNat + 1 by omega]
        rfl
      · rw [if_neg hr, if_neg (by simp only [List.length_cons]; omega)]
theorem BS_tsw {dflt lo hi : Int} {offs : Array Int} {len td : Nat} {cs : List (Int32 × KK R)} {d : KK R} (hd : decode (m_c M) pc = .ok (.tableswitch dflt lo hi offs, len)) (hn : hi = lo + (offs.size : Int) - 1) (hdt : (pc : Int) + dflt = (td : Int)) (hkd : B_S M td d sz K) (hcs : sw_ok M pc sz K cs ((offs.toList.zipIdx 0).map fun q => (lo + (q.2 : Int), q.1))) : B_S M pc (op_sw cs d) sz K := by
  intro L S h r e
  unfold op_sw at e
  split at e
  · rename_i x S'
    obtain ⟨off, tgt, f1, f2, f3⟩ := sw_off (x := x) hdt hkd cs _ hcs
    obtain ⟨e1, e2⟩ := f3 _ _ _ _ e
    refine ⟨e1, fun X hC h1 h2 h3 H locs cells slots ls hR hS hc hs hl => ?_⟩
    have e9 := e2 X hC h1 h2 h3 H locs cells slots ls hR hS hc hs hl
    rw [ts_off] at f1
    simp only [Array.length_toList] at f1
    by_cases hr : lo + ((0 : Nat) : Int) ≤ x.toInt ∧ x.toInt < lo + ((0 : Nat) : Int) + (offs.size : Int)
    · rw [if_pos hr] at f1
      refine lv_tableIn hC.exec hC.code hd (by omega) (by omega) ?_ f2 e9
      have hlt : (x.toInt - lo).toNat < offs.size := by omega
      rw [Array.getElem?_eq_getElem hlt, ← f1]
      rw [show (x.toInt - lo - ((0 : Nat) : Int)).toNat = (x.toInt - lo).toNat by omega]
      simp [List.getD, hlt]
    · rw [if_neg hr] at f1
      subst f1
      exact lv_tableOut hC.exec hC.code hd (by omega) f2 e9
  · cases e
/-! ends -/
theorem e_end {X : XX} (hC : C_X M X) {h : AH} {H : Heap} {locs : List Loc} {cells slots : Nat} {v : Option Value} (hR : R_p (x_G X) h H) (hS : va_S (g_A (x_G X)) (x_s X).heap H locs) (hc : cells + x_k X = a_sz h) (hs : slots + x_j X = a_sl h) (ho : (.inl v, h) = x_o X) {g : JFrame}
    (w : ∀ (Qc : Array Value → State → Outcome → State → Prop), (∀ t : State, t.heap = H → (x_s X).WarmedH t.vm → Qc (x_a X) (x_s X) (.returned v) t) → W (x_p X) (x_l X) (x_e X) (x_R X) (x_s X) (x_m X) (x_a X) (x_b X) (x_t X) (x_c X) H locs cells slots (MQ (x_b X) Qc (x_a X) (x_s X) cells slots (g_A (x_G X))) g) : W_X X H locs cells slots g := by
  have e1 : a_sz (x_o X).2 - x_k X = cells := by rw [← ho]; show a_sz h - _ = _; omega
  have e2 : a_sl (x_o X).2 - x_j X = slots := by rw [← ho]; show a_sl h - _ = _; omega
  unfold W_X x_Q
  rw [e1, e2]
  refine vx_ret (w _ fun t ht hW => ?_)
  refine ⟨⟨v, by rw [← ho], rfl⟩, ?_, hS.F ht⟩
  rw [← ho]
  exact (W_D.here hC hR hS ht hW).1
theorem BS_ireturn {ty : FieldType} (hd : decode (m_c M) pc = .ok (.ireturn, 1)) (hr : m_r M = some ty) : B_S M pc (op_iret ty) z_O k_O := by
  intro L S h r e
  unfold op_iret at e
  split at e
  · split at e
    · rename_i v hm
      cases e
      refine ⟨⟨Nat.le_refl _, Nat.le_refl _⟩, fun X hC h1 h2 h3 H locs cells slots ls hR hS hc hs hl => ?_⟩
      exact e_end hC hR hS hc hs h3 (fun Qc hq => W.zret hC.exec hC.code (hC.rety.trans hr) (p_ok_nar hm) hq hS.2.2 hd hC.locks)
    · cases e
  · cases e
theorem BS_lreturn (hd : decode (m_c M) pc = .ok (.lreturn, 1)) (hr : m_r M = some .long) : B_S M pc op_lret z_O k_O := by
  intro L S h r e
  unfold op_lret at e
  split at e
  · cases e
    refine ⟨⟨Nat.le_refl _, Nat.le_refl _⟩, fun X hC h1 h2 h3 H locs cells slots ls hR hS hc hs hl => ?_⟩
    exact e_end hC hR hS hc hs h3 (fun Qc hq => W.lret hC.exec hC.code (hC.rety.trans hr) hq hS.2.2 hd hC.locks)
  · cases e
theorem BS_return (hd : decode (m_c M) pc = .ok (.return_, 1)) (hr : m_r M = none) : B_S M pc op_vret z_O k_O := by
  intro L S h r e
  unfold op_vret at e
  split at e
  · cases e
    refine ⟨⟨Nat.le_refl _, Nat.le_refl _⟩, fun X hC h1 h2 h3 H locs cells slots ls hR hS hc hs hl => ?_⟩
    exact e_end hC hR hS hc hs h3 (fun Qc hq => W.vret hC.exec hC.code (hC.rety.trans hr) hq hS.2.2 hd hC.locks)
  · cases e
theorem BS_areturn {ty : FieldType} (hd : decode (m_c M) pc = .ok (.areturn, 1)) (hr : m_r M = some ty) (hty : (∃ n, ty = .object n) ∨ ∃ t, ty = .array t) : B_S M pc op_aret z_O k_O := by
  intro L S h r e
  unfold op_aret at e
  split at e
  · cases e
    refine ⟨⟨Nat.le_refl _, Nat.le_refl _⟩, fun X hC h1 h2 h3 H locs cells slots ls hR hS hc hs hl => ?_⟩
    exact e_end hC hR hS hc hs h3 (fun Qc hq => W.aret hC.exec hC.code (hC.rety.trans hr) hty (Or.inr ⟨_, rfl⟩) hq hS.2.2 hd hC.locks)
  · cases e
    refine ⟨⟨Nat.le_refl _, Nat.le_refl _⟩, fun X hC h1 h2 h3 H locs cells slots ls hR hS hc hs hl => ?_⟩
    exact e_end hC hR hS hc hs h3 (fun Qc hq => W.aret hC.exec hC.code (hC.rety.trans hr) hty (Or.inl rfl) hq hS.2.2 hd hC.locks)
  · cases e
/-- thrown: nobody here catches it -/
theorem BV_out (hout : ∀ x ∈ m_h M, covers x pc = false) : B_V M pc kx_out z_O k_O := by
  intro L q h r e
  cases e
  refine ⟨⟨Nat.le_refl _, Nat.le_refl _⟩, fun X hC h1 h2 h3 H locs cells slots ls rest E ce hR hS hc hs hl hcell hv hcl hE => ?_⟩
  have ho : (.inr q, h) = x_o X := h3
  have e1 : a_sz (x_o X).2 - x_k X = cells := by rw [← ho]; show a_sz h - _ = _; omega
  have e2 : a_sl (x_o X).2 - x_j X = slots := by rw [← ho]; show a_sl h - _ = _; omega
  unfold V_X x_Q
  rw [e1, e2]
  refine vx_out (E := E) (by rw [hC.table]; exact hout) hC.locks hcell hv hcl (fun t ht hW => ⟨by rw [← ho], by rw [← ho]; exact hE, by rw [← ho]; exact (W_D.here hC hR hS ht hW).1, hS.F ht⟩) hS.2.2 (Nat.le_refl _) (Nat.le_refl _)
theorem BS_throw {kx : KX R} (hd : decode (m_c M) pc = .ok (.athrow, 1)) (hx : B_V M pc kx sz K) : B_S M pc (op_throw kx) sz K := by
  intro L S h r e
  unfold op_throw at e
  split at e
  · split at e
    · rename_i q S' hm
      obtain ⟨e1, e2⟩ := hx _ _ _ _ e
      refine ⟨e1, fun X hC h1 h2 h3 H locs cells slots ls hR hS hc hs hl => ?_⟩
      have hk9 : (a_kd h q).1 = ((a_kd h q).1 - 10) + 10 := by omega
      have hlt : (a_kd h q).1 - 10 < CLS.length := by show _ < 19; omega
      obtain ⟨cl, hcl⟩ : ∃ z, CLS[(a_kd h q).1 - 10]? = some z := ⟨_, List.getElem?_eq_getElem hlt⟩
      obtain ⟨cell, q1, q2, q30, -, -, q4⟩ := hR.obj hk9 hcl
      have q3 : cell.vm = .none := q30 (hR.low hm.2.2)
      exact vx_athrow hC.exec hC.code hd (e2 X hC h1 h2 h3 H locs cells slots ls _ cl.1 cell hR hS hc hs hl q1 q3 (by rw [q2]; exact (hC.kf.1.1 _ cl hcl).2.1) ⟨_, cl, hk9, hcl, rfl⟩)
    · cases e
  · cases e
end HU
