section HX
variable {R : Type} {M : MM} {pc : Nat} {sz : R → Nat × Nat} {K : XX → R → Prop} {k : KK R}
/-- caught by the method's one handler -/
theorem BV_catch {ci hpc : Nat} {q : vw_C} {x : ExceptionTableEntry} (hh : m_h M = [x]) (hx : covers x pc = true) (h0 : x.catchType ≠ 0) (hp : x.handlerPc = hpc) (hlink : Cond.classLink (m_y M).cls x.catchType q.1 ∈ lw_all) (hc0 : CLS[ci]? = some q) (hcast : Cond.castable q.1 q.1 ∈ lw_tbl) (hk : B_S M hpc k sz K) : B_V M pc (kx_catch (ci + 10) k) sz K := by
  intro L a h r e
  unfold kx_catch at e
  split at e
  · rename_i hkd
    obtain ⟨e1, e2⟩ := hk _ _ _ _ e
    refine ⟨e1, fun X hC h1 h2 h3 H locs cells slots ls rest E ce hR hS hc hs hl hcell hv hcl hE => ?_⟩
    obtain ⟨cj, rr, g1, g2, g3⟩ := hE
    have : cj = ci := by omega
    subst this
    cases g2.symm.trans hc0
    subst g3
    subst hp
    exact vx_catch hC.own [] x [] (by rw [hC.table, hh]; rfl) (fun z hz => absurd hz List.not_mem_nil) hx h0 (hC.hts _ hlink) (nw_use rfl (hC.kf.2.1 _ hcast rfl)) hcell hv hcl (e2 X hC h1 h2 h3 H locs cells slots ls hR hS hc hs hl)
  · cases e
theorem run_SW {idx n nL fr lo : Nat} {y : MethodName} {cc : ByteArray} {ret : Option FieldType} {hh : List (Nat × Nat × Nat × Nat)} {F : FF} (hd : decode (m_c M) pc = .ok (.invokestatic idx, 3)) (con : Con_ y (wsW_ y cc nL ret hh) fr lo F)
    (q1 : Cond.methodLink (m_y M).cls idx y ∈ lw_all) (q2 : Cond.static y ∈ lw_all) (q3 : Cond.initialized y.cls ∈ lw_all) (q4 : Cond.codeWith y cc nL ret hh ∈ lw_all)
    (hp : (y.cls ≠ "java/lang/invoke/MethodHandle" ∧ y.cls ≠ "java/lang/invoke/VarHandle") ∧ (parseMethodDescriptor y.desc).map (fun d => d.parameters.length) = some n) (hroom : fr + 1 ≤ m_f M ∧ 8 + (nL + 11) + lo ≤ m_l M) : G_run M pc n F := by
  refine ⟨fun av h o hF => (con av h o hF).1, fun X hC av h o H locs cells slots ls rest hF hn hR hS hc hs hl hrest h1 h2 => ?_⟩
  obtain ⟨⟨m1, m2⟩, hM⟩ := con av h o hF
  exact vx_runSX (As := av) (rest := rest) ⟨hC.exec, hC.code, hC.maxL, hC.own, hC.hts⟩ (hM (x_l X) (x_G X) hC.notr) (vx_cwSW n hC.hts (lw_SW q1 q2 q3 q4) rfl rfl rfl ⟨hp.1.1, hp.1.2, hp.2⟩ ⟨by rw [hC.frames]; exact hroom.1, by rw [hC.locals]; exact hroom.2⟩)
    ⟨W_D.blind, fun U hU hW => ⟨rfl, W_D.here hC hR hS hU hW⟩⟩ rfl hn hl.1 rfl (lv_room hrest) hd (c_room hC m1 m2 hc hs h1 h2)
theorem run_VW {idx n nL fr lo ci : Nat} {q : vw_C} {y : MethodName} {cc : ByteArray} {ret : Option FieldType} {hh : List (Nat × Nat × Nat × Nat)} {F : FF} (hd : decode (m_c M) pc = .ok (.invokevirtual idx, 3)) (con : Con_ y (wsW_ y cc nL ret hh) fr lo F) (hc0 : CLS[ci]? = some q) (hy : y.cls = q.1)
    (q1 : Cond.methodLink (m_y M).cls idx y ∈ lw_all) (q2 : Cond.instanceMethod y ∈ lw_all) (q5 : Cond.selects q.1 y y ∈ lw_all) (q3 : Cond.initialized q.1 ∈ lw_all) (q4 : Cond.codeWith y cc nL ret hh ∈ lw_all)
    (hp : (y.cls ≠ "java/lang/invoke/MethodHandle" ∧ y.cls ≠ "java/lang/invoke/VarHandle") ∧ (parseMethodDescriptor y.desc).map (fun d => d.parameters.length) = some n) (hroom : fr + 1 ≤ m_f M ∧ 8 + (nL + 11) + lo ≤ m_l M) : G_run M pc (n + 1) (f_kd (ci + 10) F) := by
  refine ⟨fun av h o hF => by obtain ⟨_, _, -, -, hF⟩ := f_kd_ok hF; exact (con av h o hF).1, fun X hC av h o H locs cells slots ls rest hF hn hR hS hc hs hl hrest h1 h2 => ?_⟩
  obtain ⟨a, av', rfl, hk, hF⟩ := f_kd_ok hF
  obtain ⟨⟨m1, m2⟩, hM⟩ := con _ h o hF
  exact vx_runVX (As := av') (b := a) (C := q.1) (rest := rest) ⟨hC.exec, hC.code, hC.maxL, hC.own, hC.hts⟩ (hM (x_l X) (x_G X) hC.notr) (vx_cwVW n hC.hts (lw_VW q1 q2 q5 q3 q4) rfl rfl rfl ⟨hy, hp.1.1, hp.1.2, hp.2⟩ ⟨by rw [hC.frames]; exact hroom.1, by rw [hC.locals]; exact hroom.2⟩)
    ⟨W_D.blind, rcv_of hC hR hc0 hk, fun U hU hW => ⟨rfl, W_D.here hC hR hS hU hW⟩⟩ rfl (by simpa using hn) hl.1 (by simp) (lv_room hrest) hd (c_room hC m1 m2 hc hs h1 h2)
end HX
