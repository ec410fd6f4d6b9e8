section HT
variable {R : Type} {M : MM} {pc : Nat} {sz : R → Nat × Nat} {K : XX → R → Prop} {k : KK R}
theorem BS_newarray_i (hd : decode (m_c M) pc = .ok (.newarray .int, 2)) (hk : B_S M (pc + 2) k sz K) : B_S M pc (op_newa 1 k) sz K := BS_newarray hd (ty := .int) rfl (by decide) rfl (Or.inl ⟨by decide, rfl⟩) (fun _ _ h => h) (by decide) q315 hk
theorem BS_newarray_b (hd : decode (m_c M) pc = .ok (.newarray .byte, 2)) (hk : B_S M (pc + 2) k sz K) : B_S M pc (op_newa 2 k) sz K := BS_newarray hd (ty := .byte) rfl (by decide) rfl (Or.inl ⟨by decide, rfl⟩) (fun _ _ h => h) (by decide) q255 hk
theorem BS_newarray_c (hd : decode (m_c M) pc = .ok (.newarray .char, 2)) (hk : B_S M (pc + 2) k sz K) : B_S M pc (op_newa 3 k) sz K := BS_newarray hd (ty := .char) rfl (by decide) rfl (Or.inl ⟨by decide, rfl⟩) (fun _ _ h => h) (by decide) q287 hk
theorem BS_newarray_z (hd : decode (m_c M) pc = .ok (.newarray .boolean, 2)) (hk : B_S M (pc + 2) k sz K) : B_S M pc (op_newa 4 k) sz K := BS_newarray hd (ty := .boolean) rfl (by decide) rfl (Or.inl ⟨by decide, rfl⟩) (fun _ _ h => h) (by decide) q1736 hk
theorem BS_newarray_l (hd : decode (m_c M) pc = .ok (.newarray .long, 2)) (hk : B_S M (pc + 2) k sz K) : B_S M pc (op_newa 5 k) sz K := BS_newarray hd (ty := .long) rfl (by decide) rfl (Or.inr ⟨rfl, rfl⟩) (fun _ _ h => h) (by decide) q394 hk
theorem BS_ldcs {idx j : Nat} {tx : String} (hd : decode (m_c M) pc = .ok (.ldc idx, 2)) (hx : ((m_y M).cls, idx, tx, j) ∈ STX) (hk : B_S M (pc + 2) k sz K) : B_S M pc (op_ldcs j k) sz K := by
  intro L S h r e
  obtain ⟨e1, e2⟩ := hk _ _ _ _ e
  refine ⟨e1, fun X hC h1 h2 h3 H locs cells slots ls hR hS hc hs hl => ?_⟩
  have e9 := e2 X hC h1 h2 h3 H locs cells slots ls hR hS hc hs hl
  rw [hR.1] at e9
  exact va_ldcS hC.exec hC.code hC.own (hC.kf.2.2.2.2.2.1 _ hx) hd e9
theorem BS_gsi {idx : Nat} {C n d : String} {v : Value} (hd : decode (m_c M) pc = .ok (.getstatic idx, 3)) (hr : (C, n, d, v) ∈ STV) (hl9 : Cond.fieldLink (m_y M).cls idx C n d ∈ lw_all) (hk : B_S M (pc + 3) k sz K) : B_S M pc (op_push v k) sz K := by
  intro L S h r e
  obtain ⟨e1, e2⟩ := hk _ _ _ _ e
  exact ⟨e1, fun X hC h1 h2 h3 H locs cells slots ls hR hS hc hs hl => va_gets hC.exec hC.code (hC.kf.2.2.1 _ hr) hS hC.own (hC.hts _ hl9) (fun _ h => h) hd (e2 X hC h1 h2 h3 H locs cells slots ls hR hS hc hs hl)⟩
theorem BS_gst {idx i : Nat} {C n d : String} (hd : decode (m_c M) pc = .ok (.getstatic idx, 3)) (hr : STQ[i]? = some (C, n, d)) (hl9 : Cond.fieldLink (m_y M).cls idx C n d ∈ lw_all) (hk : B_S M (pc + 3) k sz K) : B_S M pc (op_gst i k) sz K := by
  intro L S h r e
  obtain ⟨e1, e2⟩ := hk _ _ _ _ e
  refine ⟨e1, fun X hC h1 h2 h3 H locs cells slots ls hR hS hc hs hl => ?_⟩
  have e9 := e2 X hC h1 h2 h3 H locs cells slots ls hR hS hc hs hl
  rw [hR.1] at e9
  exact va_gets hC.exec hC.code (hC.kf.2.2.2.1 i _ hr) hS hC.own (hC.hts _ hl9) (fun _ h => h) hd e9
theorem va_Wcast {p : Program} {l : Launch} {e : Env} {R : Room} {s : State} {m : MethodId} {args : Array Value} {below : List Frame} {meth : Method} {c : Code} {H : Heap} {locs : List Loc} {cells slots : Nat} {Q : State → Prop} {cc : ByteArray} {ls : Array Slot} {rest : List Value} (hexec : p.tables.exec = Jvm.exec) (hb : c.code = cc) {own nm : String} {index a : Nat} {t0 : ClassId} {cell : Cell} (hown : s.vm.findClass own = some m.cls) (hlink : (Cond.classLink own index nm).before args s = true)
    (h1 : H[a]? = some cell) (h2 : cell.vm.isStatics = false) (f2 : s.vm.findClass nm = some t0) (f3 : s.vm.assignable cell.cls t0 = true) (hdg : decode cc pc = .ok (.checkcast index, 3))
    (k : W p l e R s m args below meth c H locs cells slots Q (F0 m (pc + 3) ls (.ref a :: rest))) : W p l e R s m args below meth c H locs cells slots Q (F0 m pc ls (.ref a :: rest)) := by
  intro T hT X
  obtain ⟨vm', X', st⟩ := X.checkcastYes hexec hown hlink (by rw [hT]; exact h1) h2 f2 f3 (g := F0 m pc ls (.ref a :: rest)) rfl rfl (by rw [hb]; exact hdg)
  obtain ⟨t, a1, b1⟩ := k (T.setVm vm') hT X'
  exact ⟨t, st t a1, b1⟩
theorem va_Winst {p : Program} {l : Launch} {e : Env} {R : Room} {s : State} {m : MethodId} {args : Array Value} {below : List Frame} {meth : Method} {c : Code} {H : Heap} {locs : List Loc} {cells slots : Nat} {Q : State → Prop} {cc : ByteArray} {ls : Array Slot} {rest : List Value} (hexec : p.tables.exec = Jvm.exec) (hb : c.code = cc) {own nm : String} {index a : Nat} {t0 : ClassId} {cell : Cell} (hown : s.vm.findClass own = some m.cls) (hlink : (Cond.classLink own index nm).before args s = true)
    (h1 : H[a]? = some cell) (h2 : cell.vm.isStatics = false) (f2 : s.vm.findClass nm = some t0) (f3 : s.vm.assignable cell.cls t0 = true) (hdg : decode cc pc = .ok (.instanceof index, 3))
    (k : W p l e R s m args below meth c H locs cells slots Q (F0 m (pc + 3) ls (.int 1 :: rest))) : W p l e R s m args below meth c H locs cells slots Q (F0 m pc ls (.ref a :: rest)) := by
  intro T hT X
  obtain ⟨vm', X', st⟩ := X.instanceofYes hexec hown hlink (by rw [hT]; exact h1) h2 f2 f3 (g := F0 m pc ls (.ref a :: rest)) rfl rfl (by rw [hb]; exact hdg)
  obtain ⟨t, a1, b1⟩ := k (T.setVm vm') hT X'
  exact ⟨t, st t a1, b1⟩
/-- the class that is cast to stands in the tables -/
def T_in (C : String) : Prop := ∃ (ci : Nat) (q : vw_C), CLS[ci]? = some q ∧ (q.1 = C ∨ Cond.castable q.1 C ∈ lw_tbl)
theorem T_in.find {C : String} (hT : T_in C) {G : GG} {s : State} {H0 : Heap} (hKF : K_F G s H0) : ∃ t0, s.vm.findClass C = some t0 := by
  obtain ⟨ci, q, hc, hq⟩ := hT
  rcases hq with hq | hq
  · obtain ⟨-, hfc, -⟩ := hKF.1.1 ci _ hc
    rw [hq] at hfc
    exact ⟨_, hfc⟩
  · obtain ⟨c0, t0, f1, f2, f3⟩ := Cond.castable_spec (nw_use rfl (hKF.2.1 _ hq rfl) (A := #[]))
    exact ⟨_, f2⟩
theorem BS_cast {idx : Nat} {C : String} {cs : List Nat} (hd : decode (m_c M) pc = .ok (.checkcast idx, 3)) (hcl : Cond.classLink (m_y M).cls idx C ∈ lw_all) (hT : T_in C) (hA : ∀ u ∈ cs, A_ok C u) (hk : B_S M (pc + 3) k sz K) : B_S M pc (op_cast cs k) sz K := by
  intro L S h r e
  unfold op_cast at e
  split at e
  · split at e
    · rename_i a S' hm
      obtain ⟨e1, e2⟩ := hk _ _ _ _ e
      refine ⟨e1, fun X hC h1 h2 h3 H locs cells slots ls hR hS hc hs hl => ?_⟩
      obtain ⟨cellV, kV, v1, v2, v3, v4⟩ := (hA _ hm).asg hC.kf hR rfl
      obtain ⟨t0, ht0⟩ := hT.find hC.kf
      exact va_Wcast hC.exec hC.code hC.own (hC.hts _ hcl) v1 v2 ht0 (v4 _ ht0) hd (e2 X hC h1 h2 h3 H locs cells slots ls hR hS hc hs hl)
    · cases e
  · obtain ⟨e1, e2⟩ := hk _ _ _ _ e
    refine ⟨e1, fun X hC h1 h2 h3 H locs cells slots ls hR hS hc hs hl => ?_⟩
    exact lv_castN hC.exec hC.code hd (e2 X hC h1 h2 h3 H locs cells slots ls hR hS hc hs hl)
  · cases e
end HT
