section HZ
variable {R : Type} {M : MM} {pc : Nat} {sz : R → Nat × Nat} {K : XX → R → Prop} {k : KK R}
def mk_w : List Cond := vx_at0 "LongerHalf" 423 "java/util/NoSuchElementException" ["java/lang/RuntimeException", "java/lang/Exception"]
set_option maxRecDepth 100000 in
theorem mk_w1 : mk_w = ([138, 204, 213, 216, 219, 221, 205, 206, 174, 175, 207, 212, 217, 240, 194, 241, 196, 242, 198, 208, 210, 200, 1601, 1602, 1603, 1604, 185, 1604, 1605, 1606, 1607, 187, 1607, 1608, 1609, 205, 189, 1600, 1592, 1593, 1594, 215, 1595, 1596, 1597, 1598, 203, 202, 1599] : List Nat).filterMap (fun i => lw_tbl[i]?) := by decide +kernel
theorem mk_w2 : mk_w.all (fun w => (goodWord w || isNW w) && vx_ot w) = true := by decide +kernel
theorem mk_w3 {X : XX} (hC : C_X M X) : ∀ w ∈ mk_w, w.before (x_a X) (x_s X) = true := by
  intro w hw
  have h1 := List.all_eq_true.mp mk_w2 w hw
  rw [mk_w1] at hw
  obtain ⟨i, -, hi⟩ := List.mem_filterMap.mp hw
  have hm : w ∈ lw_tbl := List.mem_of_getElem? hi
  simp only [Bool.and_eq_true, Bool.or_eq_true] at h1
  rcases h1.1 with h | h
  · exact hC.hts _ (List.mem_filter.mpr ⟨hm, h⟩)
  · exact nw_use h (hC.kf.2.1 _ hm h)
/-- 'new NoSuchElementException()' -/
theorem BS_mk0 (hy : (m_y M).cls = "LongerHalf") (d0 : decode (m_c M) pc = .ok (.new 421, 3)) (d3 : decode (m_c M) (pc + 3) = .ok (.dup, 1)) (d4 : decode (m_c M) (pc + 4) = .ok (.invokespecial 423, 3)) (hf : 6 ≤ m_f M) (hlo : 150 ≤ m_l M) (hk : B_S M (pc + 7) k sz K) : B_S M pc (op_mk0 k) sz K := by
  intro L S h r e
  unfold op_mk0 at e
  split at e
  case isFalse => cases e
  rename_i hm
  obtain ⟨e1, e2⟩ := hk _ _ _ _ e
  have hz : a_sz (n_cell h (28, 0) 6) = a_sz h + 1 := rfl
  have hl9 : a_sl (n_cell h (28, 0) 6) = a_sl h + 6 := rfl
  rw [hz, hl9] at e1
  refine ⟨⟨by omega, by omega⟩, fun X hC h5 h6 h7 H locs cells slots ls hR hS hc hs hl => ?_⟩
  have hcc := hC.cells
  have hss := hC.slots
  have hA : ∀ q, (x_s X).heap.size ≤ q → g_A (x_G X) q := fun q hq => Nat.le_trans hC.low hq
  have hzq : ∀ i r, i < 2 → STQ[i]? = some r → vx_Zq r.1 r.2.1 r.2.2 (g_A (x_G X)) (x_s X) (x_s X).heap := by
    intro i r hi hr
    refine ⟨?_, hC.kf.2.2.2.2.1 i r hi hr⟩
    have h9 := hC.kf.2.2.2.1 i r hr
    cases hq : (x_G X).2.2.1.2.2 i with
    | none => rw [hq] at h9; exact Or.inl h9
    | some t => rw [hq] at h9; exact Or.inr ⟨t, h9⟩
  have hown := hC.own
  rw [hy] at hown
  have hP0 : va_P (x_G X).1 CLS [] H := fun i q hq => by simp at hq
  have hD0 : va_D (g_A (x_G X)) [] := ⟨fun i j p q hi => by simp at hi, fun i q hq => by simp at hq⟩
  have hsz := hR.2.1
  refine vx_makeX (D := (x_G X).1) (cl := CLS) (tys := g_tys (x_G X)) (ws := []) (A := g_A (x_G X)) (own := "LongerHalf") (cls := "java/util/NoSuchElementException") (names := ["java/lang/RuntimeException", "java/lang/Exception"]) (ik := 421) (ic := 423) (ci := 18) (T0 := TJ10) hC.exec hC.code hC.notr hown (by decide +kernel) (by decide +kernel) (hC.hts _ q1591) (hC.hts _ q167) (mk_w3 hC) ?_
    (hzq 0 _ (by decide) rfl) (hzq 1 _ (by decide) rfl) hS (by rw [hC.maxL]; exact hl.1) d0 d3 d4 hC.kf.1 hP0 hD0 hA rfl (by rw [hC.frames]; show 2 + 3 < _; omega) ?_ (by omega) (by omega) (fun H1 ce z1 o1 g1 g2 g3 => ?_)
  · intro w hw
    rcases List.mem_cons.mp hw with rfl | hw
    · rfl
    · rcases List.mem_cons.mp hw with rfl | hw
      · rfl
      · have h1 := List.all_eq_true.mp mk_w2 w hw
        simp only [Bool.and_eq_true] at h1
        exact h1.2
  · rw [hC.locals]
    have e9 : (S.map fun v => v.category).sum = c_sum S := rfl
    show _ + (13 * (2 + 1) + 42) ≤ _
    omega
  · rw [← hsz]
    refine e2 X hC h5 h6 h7 H1 locs _ _ ls (hR.new z1 o1 ?_) (hS.grow z1 o1) (by rw [hz]; omega) (by rw [hl9]; omega) hl
    unfold a_at
    rw [n_kd]
    refine ⟨fun q => by dsimp only at q; omega, fun q => by dsimp only at q; omega, fun q => by dsimp only at q; omega, fun cj hcj _ => ?_, fun q => by dsimp only at q; omega⟩
    have : cj = 18 := by dsimp only at hcj; omega
    subst this
    refine ⟨_, rfl, ce, by rw [hsz]; exact g1, g2, fun _ => g3, by rw [g3]; rfl, by rw [g3]; exact (fun h => by cases h), fun k hk => absurd hk (Nat.not_lt_zero k)⟩
end HZ
