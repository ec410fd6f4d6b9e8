section HW
variable {R : Type} {M : MM} {pc : Nat} {sz : R → Nat × Nat} {K : XX → R → Prop} {k : KK R}
def op_m2i (f : Int32 → Int32 → Int32) (k : KK R) : KK R := fun L S h => match S with
  | .int y :: .int x :: S' => if c_sum S' ≤ 8 then k L (.int (f x y) :: S') h else none
  | _ => none
def op_m2l (f : Int64 → Int64 → Int64) (k : KK R) : KK R := fun L S h => match S with
  | .long y :: .long x :: S' => if c_sum S' ≤ 8 then k L (.long (f x y) :: S') h else none
  | _ => none
def op_m1l (f : Int64 → Int64) (k : KK R) : KK R := fun L S h => match S with
  | .long x :: S' => if c_sum S' ≤ 8 then k L (.long (f x) :: S') h else none
  | _ => none
theorem BS_mmin {idx : Nat} (hd : decode (m_c M) pc = .ok (.invokestatic idx, 3)) (hlink : Cond.methodLink (m_y M).cls idx Lib.Math.min.name ∈ lw_all) (hf : 1 ≤ m_f M) (hlo : 30 ≤ m_l M) (hk : B_S M (pc + 3) k sz K) : B_S M pc (op_m2i (fun x y => if y < x then y else x) k) sz K := by
  intro L S h r e
  unfold op_m2i at e
  split at e
  · split at e
    · rename_i y x S' hm
      obtain ⟨e1, e2⟩ := hk _ _ _ _ e
      refine ⟨e1, fun X hC h1 h2 h3 H locs cells slots ls hR hS hc hs hl => ?_⟩
      have hcc := hC.cells
      have hss := hC.slots
      have e9 : (S'.map fun v => v.category).sum = c_sum S' := rfl
      exact va_mmin hC.exec hC.code (by rw [hC.maxL]; exact hl.1.symm) hC.own (hC.hts _ hlink) (hC.hts _ q1359) (hC.hts _ q165) (hC.hts _ q1360) (by rw [hC.frames]; exact hf) (by rw [hC.locals]; omega) (by omega) (by omega) hd (e2 X hC h1 h2 h3 H locs cells slots ls hR hS hc hs hl)
    · cases e
  · cases e
theorem BS_mmax {idx : Nat} (hd : decode (m_c M) pc = .ok (.invokestatic idx, 3)) (hlink : Cond.methodLink (m_y M).cls idx Lib.Math.max.name ∈ lw_all) (hf : 1 ≤ m_f M) (hlo : 30 ≤ m_l M) (hk : B_S M (pc + 3) k sz K) : B_S M pc (op_m2i (fun x y => if x < y then y else x) k) sz K := by
  intro L S h r e
  unfold op_m2i at e
  split at e
  · split at e
    · rename_i y x S' hm
      obtain ⟨e1, e2⟩ := hk _ _ _ _ e
      refine ⟨e1, fun X hC h1 h2 h3 H locs cells slots ls hR hS hc hs hl => ?_⟩
      have hcc := hC.cells
      have hss := hC.slots
      have e9 : (S'.map fun v => v.category).sum = c_sum S' := rfl
      exact va_mmax hC.exec hC.code (by rw [hC.maxL]; exact hl.1.symm) hC.own (hC.hts _ hlink) (hC.hts _ q1470) (hC.hts _ q165) (hC.hts _ q1471) (by rw [hC.frames]; exact hf) (by rw [hC.locals]; omega) (by omega) (by omega) hd (e2 X hC h1 h2 h3 H locs cells slots ls hR hS hc hs hl)
    · cases e
  · cases e
theorem BS_lmin {idx : Nat} (hd : decode (m_c M) pc = .ok (.invokestatic idx, 3)) (hlink : Cond.methodLink (m_y M).cls idx Lib.MathLoose.min_long.x ∈ lw_all) (hf : 1 ≤ m_f M) (hlo : 30 ≤ m_l M) (hk : B_S M (pc + 3) k sz K) : B_S M pc (op_m2l (fun x y => if y < x then y else x) k) sz K := by
  intro L S h r e
  unfold op_m2l at e
  split at e
  · split at e
    · rename_i y x S' hm
      obtain ⟨e1, e2⟩ := hk _ _ _ _ e
      refine ⟨e1, fun X hC h1 h2 h3 H locs cells slots ls hR hS hc hs hl => ?_⟩
      have hcc := hC.cells
      have hss := hC.slots
      have e9 : (S'.map fun v => v.category).sum = c_sum S' := rfl
      exact va_mmin_long hC.exec hC.code (by rw [hC.maxL]; exact hl.1.symm) hC.own (hC.hts _ hlink) (hC.hts _ q1332) (hC.hts _ q165) (hC.hts _ q1333) (by rw [hC.frames]; exact hf) (by rw [hC.locals]; omega) (by omega) (by omega) hd (e2 X hC h1 h2 h3 H locs cells slots ls hR hS hc hs hl)
    · cases e
  · cases e
theorem BS_lmax {idx : Nat} (hd : decode (m_c M) pc = .ok (.invokestatic idx, 3)) (hlink : Cond.methodLink (m_y M).cls idx Lib.MathLoose.max_long.x ∈ lw_all) (hf : 1 ≤ m_f M) (hlo : 30 ≤ m_l M) (hk : B_S M (pc + 3) k sz K) : B_S M pc (op_m2l (fun x y => if y < x then x else y) k) sz K := by
  intro L S h r e
  unfold op_m2l at e
  split at e
  · split at e
    · rename_i y x S' hm
      obtain ⟨e1, e2⟩ := hk _ _ _ _ e
      refine ⟨e1, fun X hC h1 h2 h3 H locs cells slots ls hR hS hc hs hl => ?_⟩
      have hcc := hC.cells
      have hss := hC.slots
      have e9 : (S'.map fun v => v.category).sum = c_sum S' := rfl
      exact va_mmax_long hC.exec hC.code (by rw [hC.maxL]; exact hl.1.symm) hC.own (hC.hts _ hlink) (hC.hts _ q1335) (hC.hts _ q165) (hC.hts _ q1336) (by rw [hC.frames]; exact hf) (by rw [hC.locals]; omega) (by omega) (by omega) hd (e2 X hC h1 h2 h3 H locs cells slots ls hR hS hc hs hl)
    · cases e
  · cases e
theorem BS_labs {idx : Nat} (hd : decode (m_c M) pc = .ok (.invokestatic idx, 3)) (hlink : Cond.methodLink (m_y M).cls idx Lib.MathLoose.abs_long.x ∈ lw_all) (hf : 1 ≤ m_f M) (hlo : 30 ≤ m_l M) (hk : B_S M (pc + 3) k sz K) : B_S M pc (op_m1l (fun x => if 0 < x then x else -x) k) sz K := by
  intro L S h r e
  unfold op_m1l at e
  split at e
  · split at e
    · rename_i x S' hm
      obtain ⟨e1, e2⟩ := hk _ _ _ _ e
      refine ⟨e1, fun X hC h1 h2 h3 H locs cells slots ls hR hS hc hs hl => ?_⟩
      have hcc := hC.cells
      have hss := hC.slots
      have e9 : (S'.map fun v => v.category).sum = c_sum S' := rfl
      exact va_mabs_long hC.exec hC.code (by rw [hC.maxL]; exact hl.1.symm) hC.own (hC.hts _ hlink) (hC.hts _ q1402) (hC.hts _ q165) (hC.hts _ q1403) (by rw [hC.frames]; exact hf) (by rw [hC.locals]; omega) (by omega) (by omega) hd (e2 X hC h1 h2 h3 H locs cells slots ls hR hS hc hs hl)
    · cases e
  · cases e
end HW
