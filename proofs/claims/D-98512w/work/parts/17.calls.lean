section HS
variable {R : Type} {M : MM} {pc : Nat} {sz : R → Nat × Nat} {K : XX → R → Prop} {k : KK R}
/-- a call that the machine makes as F says -/
def G_run (M : MM) (pc n : Nat) (F : FF) : Prop := (∀ av h o, F av h = some o → a_sz h ≤ a_sz o.2 ∧ a_sl h ≤ a_sl o.2) ∧
  ∀ (X : XX), C_X M X → ∀ (av : List Value) (h : AH) (o : OO) (H : Heap) (locs : List Loc) (cells slots : Nat) (ls : Array Slot) (rest : List Value), F av h = some o → av.length = n → R_p (x_G X) h H → va_S (g_A (x_G X)) (x_s X).heap H locs → cells + x_k X = a_sz h → slots + x_j X = a_sl h → l_rel ls (x_n X) ([] : LL) → c_sum rest ≤ 8 →
    a_sz o.2 ≤ a_sz (x_o X).2 → a_sl o.2 ≤ a_sl (x_o X).2 →
    vx_Run (x_p X) (x_l X) (x_e X) (x_R X) (x_s X) (x_m X) (x_a X) (x_b X) (x_t X) (x_c X) H locs cells slots (a_sz o.2 - a_sz h) (a_sl o.2 - a_sl h) (F0 (x_m X) pc ls (av.reverse ++ rest)) rest (e_Q (x_G X) o av.toArray) (e_X (x_G X) o) (g_A (x_G X))
theorem W_D.blind {G : GG} {h : AH} {av : List Value} : FrameBlind (va_Pc av (fun U => W_D G h U ∧ g_lo G ≤ U.heap.size)) := by
  intro a U g mk q
  obtain ⟨q0, ⟨q1, q2⟩, q3⟩ := q
  exact ⟨q0, ⟨K_F.moved (s := U) (U := U.calling g mk a) (State.WarmedH.refl U) q1, q2⟩, q3⟩
theorem W_D.here {X : XX} (hC : C_X M X) {h : AH} {H : Heap} {locs : List Loc} (hR : R_p (x_G X) h H) (hS : va_S (g_A (x_G X)) (x_s X).heap H locs) {U : State} (hU : U.heap = H) (hW : (x_s X).WarmedH U.vm) : W_D (x_G X) h U ∧ g_lo (x_G X) ≤ U.heap.size := by
  have h1 : K_F (x_G X) U (x_s X).heap := hC.kf.moved hW
  refine ⟨⟨?_, by rw [hU]; exact hR⟩, ?_⟩
  · rw [hU]
    exact h1.kept hS.2.1
  · rw [hU]
    exact Nat.le_trans hC.low hS.1
theorem l_rel.nil {ls : Array Slot} {n : Nat} {L : LL} (h : l_rel ls n L) : l_rel ls n ([] : LL) := ⟨h.1, h.2.1, fun i v q => by simp at q⟩
theorem BS_call {n : Nat} {F : FF} {kx : KX R} (hG : G_run M pc n F) (hx : B_V M pc kx sz K) (hk : B_S M (pc + 3) k sz K) : B_S M pc (op_call n F kx k) sz K := by
  intro L S h r e
  unfold op_call at e
  split at e
  · rename_i hm
    have hS9 : ((S.take n).reverse).reverse ++ S.drop n = S := by rw [List.reverse_reverse, List.take_append_drop]
    have hl9 : ((S.take n).reverse).length = n := by rw [List.length_reverse, List.length_take]; omega
    have both : ∀ o : OO, F (S.take n).reverse h = some o → (match o with
        | (.inl (some v), h') => k L (v :: S.drop n) h'
        | (.inl none, h') => k L (S.drop n) h'
        | (.inr q, h') => kx L q h') = some r → (a_sz h ≤ (sz r).1 ∧ a_sl h ≤ (sz r).2) ∧ ∀ X, C_X M X → (sz r).1 ≤ a_sz (x_o X).2 → (sz r).2 ≤ a_sl (x_o X).2 → K X r → W_at X pc L S h := by
      intro o hF e
      obtain ⟨m1, m2⟩ := hG.1 _ _ _ hF
      have key : (a_sz o.2 ≤ (sz r).1 ∧ a_sl o.2 ≤ (sz r).2) ∧ ∀ X, C_X M X → (sz r).1 ≤ a_sz (x_o X).2 → (sz r).2 ≤ a_sl (x_o X).2 → K X r → (∀ v, o.1 = .inl v → W_at X (pc + 3) L (v.toList ++ S.drop n) o.2) ∧ (∀ q, o.1 = .inr q → V_at X pc L q o.2) := by
        obtain ⟨oo, h'⟩ := o
        cases oo with
        | inl v =>
          cases v with
          | none =>
            obtain ⟨e1, e2⟩ := hk _ _ _ _ e
            exact ⟨e1, fun X hC h1 h2 h3 => ⟨fun v hv => by cases hv; exact e2 X hC h1 h2 h3, fun q hq => by cases hq⟩⟩
          | some v =>
            obtain ⟨e1, e2⟩ := hk _ _ _ _ e
            exact ⟨e1, fun X hC h1 h2 h3 => ⟨fun v hv => by cases hv; exact e2 X hC h1 h2 h3, fun q hq => by cases hq⟩⟩
        | inr q =>
          obtain ⟨e1, e2⟩ := hx _ _ _ _ e
          exact ⟨e1, fun X hC h1 h2 h3 => ⟨(fun v hv => by cases hv), fun q hq => by cases hq; exact e2 X hC h1 h2 h3⟩⟩
      obtain ⟨k1, k2⟩ := key
      refine ⟨⟨Nat.le_trans m1 k1.1, Nat.le_trans m2 k1.2⟩, fun X hC h1 h2 h3 H locs cells slots ls hR hS hc hs hl => ?_⟩
      obtain ⟨kv, kq⟩ := k2 X hC h1 h2 h3
      have hrun := hG.2 X hC _ h o H locs cells slots ls (S.drop n) hF hl9 hR hS hc hs hl.nil hm.2 (Nat.le_trans k1.1 h1) (Nat.le_trans k1.2 h2)
      rw [hS9] at hrun
      intro T hT XS
      rcases hrun T hT XS with ⟨v, st₀, t, T', L', h0, X', hL, e1, e2, ⟨⟨v', ho, hv⟩, ⟨hKF, hRt⟩, hFr⟩, st⟩ | ⟨q, st₀, t, T', L', E, ce, h0, X', hL, e1, e2, ⟨ho, hE, ⟨hKF, hRt⟩, hFr⟩, hce, hcv, hcl, st⟩
      · cases hv
        obtain ⟨-, -, hS1⟩ := vx_keep h0 e1 hS (fun q _ hq => hq) (fun q hq => hq) hL hFr
        obtain ⟨t2, a1, b1⟩ := kv v ho T'.heap (locs ++ L') _ _ ls (by rw [e1]; exact hRt) hS1 (by omega) (by omega) hl T' rfl X'
        exact ⟨t2, st t2 a1, b1⟩
      · obtain ⟨-, -, hS1⟩ := vx_keep h0 e1 hS (fun q _ hq => hq) (fun q hq => hq) hL hFr
        obtain ⟨t2, a1, b1⟩ := kq q ho T'.heap (locs ++ L') _ _ ls (S.drop n) E ce (by rw [e1]; exact hRt) hS1 (by omega) (by omega) hl (by rw [e1]; exact hce) hcv hcl hE T' rfl X'
        exact ⟨t2, st.trans a1, b1⟩
    split at e
    · rename_i v h' hF
      exact both _ hF e
    · rename_i h' hF
      exact both _ hF e
    · rename_i q h' hF
      exact both _ hF e
    · cases e
  · cases e
theorem c_room {X : XX} (hC : C_X M X) {h : AH} {o : OO} {cells slots : Nat} (m1 : a_sz h ≤ a_sz o.2) (m2 : a_sl h ≤ a_sl o.2) (hc : cells + x_k X = a_sz h) (hs : slots + x_j X = a_sl h) (h1 : a_sz o.2 ≤ a_sz (x_o X).2) (h2 : a_sl o.2 ≤ a_sl (x_o X).2) : cells + (a_sz o.2 - a_sz h) ≤ (x_R X).cells ∧ slots + (a_sl o.2 - a_sl h) ≤ (x_R X).slots := by
  have := hC.cells
  have := hC.slots
  omega
/-- a static call -/
theorem run_S {idx n nL fr lo : Nat} {y : MethodName} {cc : ByteArray} {ret : Option FieldType} {F : FF} (hd : decode (m_c M) pc = .ok (.invokestatic idx, 3)) (con : Con_ y (ws_ y cc nL ret) fr lo F)
    (q1 : Cond.methodLink (m_y M).cls idx y ∈ lw_all) (q2 : Cond.static y ∈ lw_all) (q3 : Cond.initialized y.cls ∈ lw_all) (q4 : Cond.code y cc nL ret ∈ lw_all)
    (hp : (y.cls ≠ "java/lang/invoke/MethodHandle" ∧ y.cls ≠ "java/lang/invoke/VarHandle") ∧ (parseMethodDescriptor y.desc).map (fun d => d.parameters.length) = some n) (hroom : fr + 1 ≤ m_f M ∧ 8 + (nL + 11) + lo ≤ m_l M) : G_run M pc n F := by
  refine ⟨fun av h o hF => (con av h o hF).1, fun X hC av h o H locs cells slots ls rest hF hn hR hS hc hs hl hrest h1 h2 => ?_⟩
  obtain ⟨⟨m1, m2⟩, hM⟩ := con av h o hF
  exact vx_runS (As := av) (rest := rest) ⟨hC.exec, hC.code, hC.maxL, hC.own, hC.hts⟩ (hM (x_l X) (x_G X) hC.notr) (va_cwS n hC.hts (lw_S q1 q2 q3 q4) rfl rfl rfl ⟨hp.1.1, hp.1.2, hp.2⟩ ⟨by rw [hC.frames]; exact hroom.1, by rw [hC.locals]; exact hroom.2⟩)
    ⟨W_D.blind, fun U hU hW => ⟨rfl, W_D.here hC hR hS hU hW⟩⟩ rfl hn hl.1 rfl (lv_room hrest) hd (c_room hC m1 m2 hc hs h1 h2)
theorem run_SN {idx n nL fr lo : Nat} {y : MethodName} {cc : ByteArray} {ret : Option FieldType} {host : String} {F : FF} (hd : decode (m_c M) pc = .ok (.invokestatic idx, 3)) (con : Con_ y (ws_ y cc nL ret) fr lo F)
    (q1 : Cond.methodLinkNest (m_y M).cls idx y host ∈ lw_tbl) (q2 : Cond.static y ∈ lw_all) (q3 : Cond.initialized y.cls ∈ lw_all) (q4 : Cond.code y cc nL ret ∈ lw_all)
    (hp : (y.cls ≠ "java/lang/invoke/MethodHandle" ∧ y.cls ≠ "java/lang/invoke/VarHandle") ∧ (parseMethodDescriptor y.desc).map (fun d => d.parameters.length) = some n) (hroom : fr + 1 ≤ m_f M ∧ 8 + (nL + 11) + lo ≤ m_l M) : G_run M pc n F := by
  refine ⟨fun av h o hF => (con av h o hF).1, fun X hC av h o H locs cells slots ls rest hF hn hR hS hc hs hl hrest h1 h2 => ?_⟩
  obtain ⟨⟨m1, m2⟩, hM⟩ := con av h o hF
  exact vx_runSN (As := av) (rest := rest) ⟨hC.exec, hC.code, hC.maxL, hC.own, hC.hts⟩ (hM (x_l X) (x_G X) hC.notr) ⟨va_cnB n hC.hts (lw_meth q4) rfl rfl rfl (hC.kf.2.1 _ q1 rfl) (hC.hts _ q3) ⟨hp.1.1, hp.1.2, hp.2⟩ ⟨by rw [hC.frames]; exact hroom.1, by rw [hC.locals]; exact hroom.2⟩, hC.hts _ q2, trivial⟩
    ⟨W_D.blind, fun U hU hW => ⟨rfl, W_D.here hC hR hS hU hW⟩⟩ rfl hn hl.1 rfl (lv_room hrest) hd (c_room hC m1 m2 hc hs h1 h2)
/-- a constructor's call; the receiver is any reference -/
def f_rcv (F : FF) : FF := fun av h => match av with
  | .ref _ :: _ => F av h
  | _ => none
theorem f_rcv_ok {F : FF} {av : List Value} {h : AH} {o : OO} (e : f_rcv F av h = some o) : ∃ a av', av = .ref a :: av' ∧ F av h = some o := by
  unfold f_rcv at e
  split at e
  · rename_i a av'
    exact ⟨a, av', rfl, e⟩
  · cases e
theorem run_I {idx n nL fr lo : Nat} {y : MethodName} {cc : ByteArray} {F : FF} (hd : decode (m_c M) pc = .ok (.invokespecial idx, 3)) (con : Con_ y (ws_ y cc nL none) fr lo F)
    (q1 : Cond.methodLink (m_y M).cls idx y ∈ lw_all) (q2 : Cond.instanceMethod y ∈ lw_all) (q3 : Cond.initialized y.cls ∈ lw_all) (q4 : Cond.code y cc nL none ∈ lw_all) (hy1 : y.name = "<init>")
    (hp : (y.cls ≠ "java/lang/invoke/MethodHandle" ∧ y.cls ≠ "java/lang/invoke/VarHandle") ∧ (parseMethodDescriptor y.desc).map (fun d => d.parameters.length) = some n) (hroom : fr + 1 ≤ m_f M ∧ 8 + (nL + 11) + lo ≤ m_l M) : G_run M pc (n + 1) (f_rcv F) := by
  refine ⟨fun av h o hF => by obtain ⟨_, _, -, hF⟩ := f_rcv_ok hF; exact (con av h o hF).1, fun X hC av h o H locs cells slots ls rest hF hn hR hS hc hs hl hrest h1 h2 => ?_⟩
  obtain ⟨a, av', rfl, hF⟩ := f_rcv_ok hF
  obtain ⟨⟨m1, m2⟩, hM⟩ := con _ h o hF
  exact vx_runI (As := av') (b := a) (rest := rest) ⟨hC.exec, hC.code, hC.maxL, hC.own, hC.hts⟩ (hM (x_l X) (x_G X) hC.notr) (cwI n hC.hts (lw_meth q4) rfl rfl rfl (hC.hts _ q3) (hC.hts _ q1) (hC.hts _ q2) hy1 ⟨hp.1.1, hp.1.2, hp.2⟩ ⟨by rw [hC.frames]; exact hroom.1, by rw [hC.locals]; exact hroom.2⟩)
    ⟨W_D.blind, fun U hU hW => ⟨rfl, W_D.here hC hR hS hU hW⟩⟩ rfl (by simpa using hn) hl.1 (by simp) (lv_room hrest) hd (c_room hC m1 m2 hc hs h1 h2)
theorem run_IN {idx n nL fr lo : Nat} {y : MethodName} {cc : ByteArray} {host : String} {F : FF} (hd : decode (m_c M) pc = .ok (.invokespecial idx, 3)) (con : Con_ y (ws_ y cc nL none) fr lo F)
    (q1 : Cond.methodLinkNest (m_y M).cls idx y host ∈ lw_tbl) (q2 : Cond.instanceMethod y ∈ lw_all) (q3 : Cond.initialized y.cls ∈ lw_all) (q4 : Cond.code y cc nL none ∈ lw_all) (hy1 : y.name = "<init>")
    (hp : (y.cls ≠ "java/lang/invoke/MethodHandle" ∧ y.cls ≠ "java/lang/invoke/VarHandle") ∧ (parseMethodDescriptor y.desc).map (fun d => d.parameters.length) = some n) (hroom : fr + 1 ≤ m_f M ∧ 8 + (nL + 11) + lo ≤ m_l M) : G_run M pc (n + 1) (f_rcv F) := by
  refine ⟨fun av h o hF => by obtain ⟨_, _, -, hF⟩ := f_rcv_ok hF; exact (con av h o hF).1, fun X hC av h o H locs cells slots ls rest hF hn hR hS hc hs hl hrest h1 h2 => ?_⟩
  obtain ⟨a, av', rfl, hF⟩ := f_rcv_ok hF
  obtain ⟨⟨m1, m2⟩, hM⟩ := con _ h o hF
  exact vx_runIN (As := av') (b := a) (rest := rest) ⟨hC.exec, hC.code, hC.maxL, hC.own, hC.hts⟩ (hM (x_l X) (x_G X) hC.notr) ⟨va_cnB n hC.hts (lw_meth q4) rfl rfl rfl (hC.kf.2.1 _ q1 rfl) (hC.hts _ q3) ⟨hp.1.1, hp.1.2, hp.2⟩ ⟨by rw [hC.frames]; exact hroom.1, by rw [hC.locals]; exact hroom.2⟩, hy1, hC.hts _ q2⟩
    ⟨W_D.blind, fun U hU hW => ⟨rfl, W_D.here hC hR hS hU hW⟩⟩ rfl (by simpa using hn) hl.1 (by simp) (lv_room hrest) hd (c_room hC m1 m2 hc hs h1 h2)
/-- a receiver of kind t -/
def f_kd (t : Nat) (F : FF) : FF := fun av h => match av with
  | .ref a :: _ => if (a_kd h a).1 = t then F av h else none
  | _ => none
theorem f_kd_ok {t : Nat} {F : FF} {av : List Value} {h : AH} {o : OO} (e : f_kd t F av h = some o) : ∃ a av', av = .ref a :: av' ∧ (a_kd h a).1 = t ∧ F av h = some o := by
  unfold f_kd at e
  split at e
  · rename_i a av'
    split at e
    · rename_i hq
      exact ⟨a, av', rfl, hq, e⟩
    · cases e
  · cases e
theorem rcv_of {X : XX} (hC : C_X M X) {h : AH} {H : Heap} (hR : R_p (x_G X) h H) {ci a : Nat} {q : vw_C} (hc0 : CLS[ci]? = some q) (hk : (a_kd h a).1 = ci + 10) : ∃ cell : Cell, H[a]? = some cell ∧ cell.vm.isStatics = false ∧ (x_s X).vm.findClass q.1 = some cell.cls := by
  obtain ⟨cell, q1, q2, -, q3, -⟩ := hR.obj hk hc0
  exact ⟨cell, q1, q3, by rw [q2]; exact (hC.kf.1.1 ci q hc0).2.1⟩
theorem run_V {idx n nL fr lo ci : Nat} {q : vw_C} {y : MethodName} {cc : ByteArray} {ret : Option FieldType} {F : FF} (hd : decode (m_c M) pc = .ok (.invokevirtual idx, 3)) (con : Con_ y (ws_ y cc nL ret) fr lo F) (hc0 : CLS[ci]? = some q) (hy : y.cls = q.1)
    (q1 : Cond.methodLink (m_y M).cls idx y ∈ lw_all) (q2 : Cond.instanceMethod y ∈ lw_all) (q5 : Cond.selects q.1 y y ∈ lw_all) (q3 : Cond.initialized q.1 ∈ lw_all) (q4 : Cond.code y cc nL ret ∈ lw_all)
    (hp : (y.cls ≠ "java/lang/invoke/MethodHandle" ∧ y.cls ≠ "java/lang/invoke/VarHandle") ∧ (parseMethodDescriptor y.desc).map (fun d => d.parameters.length) = some n) (hroom : fr + 1 ≤ m_f M ∧ 8 + (nL + 11) + lo ≤ m_l M) : G_run M pc (n + 1) (f_kd (ci + 10) F) := by
  refine ⟨fun av h o hF => by obtain ⟨_, _, -, -, hF⟩ := f_kd_ok hF; exact (con av h o hF).1, fun X hC av h o H locs cells slots ls rest hF hn hR hS hc hs hl hrest h1 h2 => ?_⟩
  obtain ⟨a, av', rfl, hk, hF⟩ := f_kd_ok hF
  obtain ⟨⟨m1, m2⟩, hM⟩ := con _ h o hF
  exact vx_runV (As := av') (b := a) (C := q.1) (rest := rest) ⟨hC.exec, hC.code, hC.maxL, hC.own, hC.hts⟩ (hM (x_l X) (x_G X) hC.notr) (cwV n hC.hts (lw_V q1 q2 q5 q3 q4) rfl rfl rfl ⟨hy, hp.1.1, hp.1.2, hp.2⟩ ⟨by rw [hC.frames]; exact hroom.1, by rw [hC.locals]; exact hroom.2⟩)
    ⟨W_D.blind, rcv_of hC hR hc0 hk, fun U hU hW => ⟨rfl, W_D.here hC hR hS hU hW⟩⟩ rfl (by simpa using hn) hl.1 (by simp) (lv_room hrest) hd (c_room hC m1 m2 hc hs h1 h2)
/-- an inherited or overriding method -/
theorem run_U {idx n nL fr lo ci : Nat} {q : vw_C} {owner : String} {x y : MethodName} {cc : ByteArray} {ret : Option FieldType} {F : FF} (hd : decode (m_c M) pc = .ok (.invokevirtual idx, 3)) (con : Con_ y (ws_ y cc nL ret) fr lo F) (hc0 : CLS[ci]? = some q)
    (q1 : Cond.methodLink (m_y M).cls idx x ∈ lw_all) (q6 : Cond.sameMethod x.cls owner x.name x.desc ∈ lw_all) (q5 : Cond.selects q.1 x y ∈ lw_all) (q2 : Cond.instanceMethod y ∈ lw_all) (q3 : Cond.initialized y.cls ∈ lw_all) (q4 : Cond.code y cc nL ret ∈ lw_all)
    (hdc : (∃ b m0 r0, Cond.instanceMethod ⟨owner, x.name, x.desc⟩ ∈ lw_all ∧ Cond.code ⟨owner, x.name, x.desc⟩ b m0 r0 ∈ lw_all) ∨ Cond.declares ⟨owner, x.name, x.desc⟩ ∈ lw_tbl)
    (hp : (owner ≠ "java/lang/invoke/MethodHandle" ∧ owner ≠ "java/lang/invoke/VarHandle") ∧ (parseMethodDescriptor x.desc).map (fun d => d.parameters.length) = some n) (hroom : fr + 1 ≤ m_f M ∧ 8 + (nL + 11) + lo ≤ m_l M) : G_run M pc (n + 1) (f_kd (ci + 10) F) := by
  refine ⟨fun av h o hF => by obtain ⟨_, _, -, -, hF⟩ := f_kd_ok hF; exact (con av h o hF).1, fun X hC av h o H locs cells slots ls rest hF hn hR hS hc hs hl hrest h1 h2 => ?_⟩
  obtain ⟨a, av', rfl, hk, hF⟩ := f_kd_ok hF
  obtain ⟨⟨m1, m2⟩, hM⟩ := con _ h o hF
  have hG : GoodIn lw_all (ws_ y cc nL ret) := lw_meth q4
  have hdecl : va_Decl (x_s X) ⟨owner, x.name, x.desc⟩ := by
    rcases hdc with ⟨b, m0, r0, g1, g2⟩ | g1
    · exact va_Decl.of (hC.hts _ g1) (hC.hts _ g2)
    · exact va_Decl.abs (hC.kf.2.1 _ g1 rfl)
  refine vx_runU (As := av') (b := a) (C := q.1) (owner := owner) (rest := rest) ⟨hC.exec, hC.code, hC.maxL, hC.own, hC.hts⟩ (hM (x_l X) (x_G X) hC.notr)
    ⟨⟨rfl, rfl, by rw [hC.frames]; exact hroom.1, by rw [hC.locals]; exact hroom.2, pay_in hC.hts hG, List.mem_cons_self⟩, hC.hts _ q4, hC.hts _ q3, hp.1, fun sig h9 => ?_, hC.hts _ q1, hC.hts _ q6, hdecl, hC.hts _ q5, hC.hts _ q2⟩
    ⟨W_D.blind, rcv_of hC hR hc0 hk, fun U hU hW => ⟨rfl, W_D.here hC hR hS hU hW⟩⟩ rfl (by simpa using hn) hl.1 (by simp) (lv_room hrest) hd (c_room hC m1 m2 hc hs h1 h2)
  have h2 := hp.2
  rw [h9] at h2
  exact (Option.some.inj h2).symm
/-- by the receiver's kind -/
def f_or (F1 F2 : FF) : FF := fun av h => match F1 av h with
  | some o => some o
  | none => F2 av h
theorem run_or {n : Nat} {F1 F2 : FF} (h1 : G_run M pc n F1) (h2 : G_run M pc n F2) : G_run M pc n (f_or F1 F2) := by
  refine ⟨fun av h o e => ?_, fun X hC av h o H locs cells slots ls rest e => ?_⟩
  · unfold f_or at e
    split at e
    · rename_i o' he; cases e; exact h1.1 _ _ _ he
    · exact h2.1 _ _ _ e
  · unfold f_or at e
    split at e
    · rename_i o' he; cases e; exact h1.2 X hC _ _ _ _ _ _ _ _ _ he
    · exact h2.2 X hC _ _ _ _ _ _ _ _ _ e
end HS
