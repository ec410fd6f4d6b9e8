/-! a String constant by the wide form of ldc -/
section LDW
variable {R : Type} {M : MM} {pc : Nat} {sz : R → Nat × Nat} {K : XX → R → Prop} {k : KK R}
theorem BS_ldcsw {idx j : Nat} {tx : String} (hd : decode (m_c M) pc = .ok (.ldc_w idx, 3)) (hx : ((m_y M).cls, idx, tx, j) ∈ STX) (hk : B_S M (pc + 3) k sz K) : B_S M pc (op_ldcs j k) sz K := by
  intro L S h r e
  obtain ⟨e1, e2⟩ := hk _ _ _ _ e
  refine ⟨e1, fun X hC h1 h2 h3 H locs cells slots ls hR hS hc hs hl => ?_⟩
  have e9 := e2 X hC h1 h2 h3 H locs cells slots ls hR hS hc hs hl
  rw [hR.1] at e9
  have hZ := hC.kf.2.2.2.2.2.1 _ hx
  intro T hT Y
  obtain ⟨t, a1, b1⟩ := e9 T hT Y
  exact ⟨t, Y.ldcStringW hC.exec hC.own (text := tx) hZ.1 hZ.2 (g := F0 (x_m X) pc ls S) rfl (by rw [hC.code]; exact hd) t a1, b1⟩
end LDW
