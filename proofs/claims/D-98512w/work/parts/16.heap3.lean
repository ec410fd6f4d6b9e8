section HR
variable {R : Type} {M : MM} {pc : Nat} {sz : R → Nat × Nat} {K : XX → R → Prop} {k : KK R}
theorem BS_iast_g {t : Nat} {ty : FieldType} {ins : Instr} (hd : decode (m_c M) pc = .ok (ins, 1)) (h1 : 1 ≤ t) (h4 : t ≤ 4)
    (row : ∀ (X : XX) (H : Heap) (locs : List Loc) (cells slots : Nat) (ls : Array Slot) (S' : SS) (a n : Nat) (f : Nat → Int32) (i x : Int32), C_X M X → H[a]? = some (vp_cell ((x_G X).2.1 t) (n, .inl f)) → vp_in i n →
      (∀ H1 : Heap, H1[a]? = some ((vp_cell ((x_G X).2.1 t) (n, .inl f)).setSlot i.toNatClampNeg (.int (vp_nar ty x))) → H1.size = H.size → (∀ q, q ≠ a → H1[q]? = H[q]?) → W_X X H1 (locs ++ [⟨a, i.toNatClampNeg⟩]) cells slots (F0 (x_m X) (pc + 1) ls S')) →
      W_X X H locs cells slots (F0 (x_m X) pc ls (.int x :: .int i :: .ref a :: S')))
    (hk : B_S M (pc + 1) k sz K) : B_S M pc (op_iast t ty k) sz K := by
  intro L S h r e
  unfold op_iast at e
  split at e
  · split at e
    · rename_i x i a S' hm
      obtain ⟨e1, e2⟩ := hk _ _ _ _ e
      refine ⟨e1, fun X hC h5 h6 h7 H locs cells slots ls hR hS hc hs hl => row X H locs cells slots ls S' a _ _ i x hC (hR.arrI hm.1 h1 h4) (b_in_vp hm.2.1) (fun H1 g1 g2 g3 => ?_)⟩
      exact e2 X hC h5 h6 h7 H1 _ cells slots ls (hR.setI hm.1 ⟨h1, h4⟩ g1 g2 g3) (hS.put g2 g3 (hR.low hm.2.2)) hc hs hl
    · cases e
  · cases e
theorem BS_iastore (hd : decode (m_c M) pc = .ok (.iastore, 1)) (hk : B_S M (pc + 1) k sz K) : B_S M pc (op_iast 1 .int k) sz K :=
  BS_iast_g hd (by decide) (by decide) (fun X H locs cells slots ls S' a n f i x hC hcell hin kk => W.iast hC.exec hC.code hcell ((g_tys1 hC.kf (i := 0) rfl).1 n _) (fun q => by cases q) (by show ¬ (i < 0 ∨ (arrV _ _ _).slots.size ≤ _); rw [arrV_size]; exact hin) rfl rfl hd kk) hk
theorem BS_bastore (hd : decode (m_c M) pc = .ok (.bastore, 1)) (hk : B_S M (pc + 1) k sz K) : B_S M pc (op_iast 2 .byte k) sz K :=
  BS_iast_g hd (by decide) (by decide) (fun X H locs cells slots ls S' a n f i x hC hcell hin kk => W.bast hC.exec hC.code hcell ((g_tys1 hC.kf (i := 1) rfl).1 n _) (fun q => by cases q) (by show ¬ (i < 0 ∨ (arrV _ _ _).slots.size ≤ _); rw [arrV_size]; exact hin) rfl rfl hd kk) hk
theorem BS_castore (hd : decode (m_c M) pc = .ok (.castore, 1)) (hk : B_S M (pc + 1) k sz K) : B_S M pc (op_iast 3 .char k) sz K :=
  BS_iast_g hd (by decide) (by decide) (fun X H locs cells slots ls S' a n f i x hC hcell hin kk => W.cast hC.exec hC.code hcell ((g_tys1 hC.kf (i := 2) rfl).1 n _) (fun q => by cases q) (by show ¬ (i < 0 ∨ (arrV _ _ _).slots.size ≤ _); rw [arrV_size]; exact hin) rfl rfl hd kk) hk
theorem BS_zastore (hd : decode (m_c M) pc = .ok (.bastore, 1)) (hk : B_S M (pc + 1) k sz K) : B_S M pc (op_iast 4 .boolean k) sz K :=
  BS_iast_g hd (by decide) (by decide) (fun X H locs cells slots ls S' a n f i x hC hcell hin kk => W.zast hC.exec hC.code hcell ((g_tys1 hC.kf (i := 3) rfl).1 n _) (fun q => by cases q) (by show ¬ (i < 0 ∨ (arrV _ _ _).slots.size ≤ _); rw [arrV_size]; exact hin) rfl rfl hd kk) hk
theorem BS_lastore (hd : decode (m_c M) pc = .ok (.lastore, 1)) (hk : B_S M (pc + 1) k sz K) : B_S M pc (op_last k) sz K := by
  intro L S h r e
  unfold op_last at e
  split at e
  · split at e
    · rename_i x i a S' hm
      obtain ⟨e1, e2⟩ := hk _ _ _ _ e
      refine ⟨e1, fun X hC h5 h6 h7 H locs cells slots ls hR hS hc hs hl => W.last hC.exec hC.code (hR.arrL hm.1) ((g_tys1 hC.kf (i := 4) rfl).1 _ _) (fun q => by cases q) (by show ¬ (i < 0 ∨ (arrV _ _ _).slots.size ≤ _); rw [arrV_size]; exact b_in_vp hm.2.1) rfl rfl hd (fun H1 g1 g2 g3 => ?_)⟩
      exact e2 X hC h5 h6 h7 H1 _ cells slots ls (hR.setL hm.1 g1 g2 g3) (hS.put g2 g3 (hR.low hm.2.2)) hc hs hl
    · cases e
  · cases e
/-- a class that goes into an array of C -/
def A_ok (C : String) (t : Nat) : Prop := ∃ (ci : Nat) (q : vw_C), t = ci + 10 ∧ CLS[ci]? = some q ∧ (q.1 = C ∨ Cond.castable q.1 C ∈ lw_tbl)
theorem A_ok.asg {C : String} {t : Nat} (hA : A_ok C t) {G : GG} {s : State} {H0 H : Heap} {h : AH} {v : Nat} (hKF : K_F G s H0) (hR : R_p G h H) (hk : (a_kd h v).1 = t) :
    ∃ (cell : Cell) (k : Class), H[v]? = some cell ∧ cell.vm.isStatics = false ∧ s.vm.classes[cell.cls]? = some k ∧ ∀ comp : ClassId, s.vm.findClass C = some comp → s.vm.assignable cell.cls comp = true := by
  obtain ⟨ci, q, rfl, hc, hq⟩ := hA
  obtain ⟨cell, q1, q2, -, q3, -, q4⟩ := hR.obj hk hc
  obtain ⟨-, hfc⟩ := hKF.1.1 ci _ hc
  obtain ⟨hfc0, kC, hkC, hkind⟩ := id hfc
  refine ⟨cell, kC, q1, q3, by rw [q2]; exact hkC, fun comp hcomp => ?_⟩
  rw [q2]
  rcases hq with hq | hq
  · rw [hq] at hfc hfc0
    cases hfc0.symm.trans hcomp
    exact va_assign hfc
  · obtain ⟨c0, t0, f1, f2, f3⟩ := Cond.castable_spec (nw_use rfl (hKF.2.1 _ hq rfl) (A := #[]))
    cases hfc0.symm.trans f1
    cases hcomp.symm.trans f2
    exact f3
theorem BS_aastore {t : Nat} {C : String} {cs : List Nat} (hd : decode (m_c M) pc = .ok (.aastore, 1)) (h1 : 6 ≤ t) (h2 : t ≤ 9) (ht : TYS[t - 1]? = some (.object C)) (hA : ∀ u ∈ cs, A_ok C u) (hk : B_S M (pc + 1) k sz K) : B_S M pc (op_aast t cs k) sz K := by
  intro L S h r e
  unfold op_aast at e
  split at e
  · split at e
    · rename_i v i a S' hm
      obtain ⟨e1, e2⟩ := hk _ _ _ _ e
      refine ⟨e1, fun X hC h5 h6 h7 H locs cells slots ls hR hS hc hs hl => ?_⟩
      obtain ⟨cellV, kV, v1, v2, v3, v4⟩ := (hA _ hm.2.2.2).asg hC.kf hR rfl
      have hcell := hR.arrR hm.1 h1 h2
      have hra := (g_tys1 hC.kf ht).2
      rw [Nat.sub_add_cancel (by omega)] at hra
      obtain ⟨kA, comp, k1, k2, k3, -⟩ := hra
      obtain ⟨kC, hkC, -⟩ := Vm.findClass_spec k3
      have hin := b_in_vp hm.2.1
      exact W.aast hC.exec hC.code hcell (fun q h => by cases h) (fun h => by cases h) k1 k2 rfl hkC ⟨fun q => hin (Or.inl q), by show _ < (arrV _ _ _).slots.size; rw [arrV_size]; exact Nat.not_le.mp fun q => hin (Or.inr q)⟩ v1 (fun q h => by rw [h] at v2; cases v2) v3 (v4 _ k3) rfl rfl hd (fun H1 g1 g2 g3 =>
        e2 X hC h5 h6 h7 H1 _ cells slots ls (hR.setR (x := some v) hm.1 ⟨h1, h2⟩ g1 g2 g3) (hS.put g2 g3 (hR.low hm.2.2.1)) hc hs hl)
    · cases e
  · cases e
/-- a new cell -/
theorem R_p.new {G : GG} {h : AH} {H H1 : Heap} {t : Nat × Nat} {n : Nat} (hR : R_p G h H) (z1 : H1.size = H.size + 1) (o1 : ∀ q, q < H.size → H1[q]? = H[q]?) (ha : a_at G (n_cell h t n) (a_sz h) H1) : R_p G (n_cell h t n) H1 := by
  refine ⟨hR.1, ?_, fun b => ?_⟩
  · show a_sz h + 1 = _
    rw [z1, hR.2.1]
  · by_cases hb : b = a_sz h
    · subst hb; exact ha
    · refine (hR.2.2 b).to ?_ (by show (if b = a_sz h then t else a_kd h b) = _; rw [if_neg hb]) (fun k => by show z_2 _ _ _ k b = _; simp [z_2, hb]) (fun k => by show z_2 _ _ _ k b = _; simp [z_2, hb]) (fun k => by show z_2 _ _ _ k b = _; simp [z_2, hb]) (by funext j; show z_1 _ _ _ b j = _; simp [z_1, hb]) (by funext j; show z_1 _ _ _ b j = _; simp [z_1, hb]) (by funext j; show z_1 _ _ _ b j = _; simp [z_1, hb])
      by_cases hl : b < H.size
      · exact o1 b hl
      · have hsz := hR.2.1
        have e1 : H[b]? = none := Array.getElem?_eq_none (by omega)
        have e2 : H1[b]? = none := Array.getElem?_eq_none (by omega)
        rw [e1, e2]
theorem n_kd {h : AH} {t : Nat × Nat} {n : Nat} : a_kd (n_cell h t n) (a_sz h) = t := by
  show (if a_sz h = a_sz h then t else a_kd h (a_sz h)) = t
  rw [if_pos rfl]
theorem va_S.grow {A : Nat → Prop} {H0 H H1 : Heap} {locs : List Loc} (hS : va_S A H0 H locs) (z1 : H1.size = H.size + 1) (o1 : ∀ q, q < H.size → H1[q]? = H[q]?) : va_S A H0 H1 locs :=
  ⟨Nat.le_trans hS.1 (by omega), fun x h1 h2 => (o1 x (Nat.lt_of_lt_of_le h1 hS.1)).trans (hS.2.1 x h1 h2), hS.2.2⟩
theorem BS_new {idx ci n : Nat} {q : vw_C} (hd : decode (m_c M) pc = .ok (.new idx, 3)) (hc0 : CLS[ci]? = some q) (hn : q.2.2 = n) (hcl : Cond.classLink (m_y M).cls idx q.1 ∈ lw_all) (hin : Cond.instantiable q.1 n ∈ lw_all) (hini : Cond.initialized q.1 ∈ lw_all) (hk : B_S M (pc + 3) k sz K) : B_S M pc (op_new ci n k) sz K := by
  intro L S h r e
  obtain ⟨e1, e2⟩ := hk _ _ _ _ e
  have hz : a_sz (n_cell h (ci + 10, 0) n) = a_sz h + 1 := rfl
  have hl9 : a_sl (n_cell h (ci + 10, 0) n) = a_sl h + n := rfl
  rw [hz, hl9] at e1
  refine ⟨⟨by omega, by omega⟩, fun X hC h5 h6 h7 H locs cells slots ls hR hS hc hs hl => ?_⟩
  obtain ⟨hinw, hty, hnm, hlen, hnd, htc⟩ := cls_ok ci q hc0
  have hKn := hC.kf.1.1 ci _ hc0
  have hcc := hC.cells
  have hss := hC.slots
  refine W.newcK hC.exec hC.code hC.own (hC.hts _ hcl) (hC.hts _ hin) (hC.hts _ hini) rfl hd (by omega) (by omega) hKn.2.1 rfl (fun H1 kC hkC g1 z1 o1 => ?_)
  have hsz := hR.2.1
  rw [← hsz]
  refine e2 X hC h5 h6 h7 H1 locs _ _ ls (hR.new z1 o1 ?_) (hS.grow z1 o1) (by rw [hz]; omega) (by rw [hl9]; omega) hl
  unfold a_at
  rw [n_kd]
  have h18 : ci ≤ 18 := by
    have := (List.getElem?_eq_some_iff.mp hc0).1
    have h9 : CLS.length = 19 := rfl
    omega
  refine ⟨fun q => by dsimp only at q; omega, fun q => by dsimp only at q; omega, fun q => by dsimp only at q; omega, fun cj hcj _ => ?_, fun q => by dsimp only at q; omega⟩
  have : cj = ci := by dsimp only at hcj; omega
  subst this
  refine ⟨q, hc0, ?_⟩
  rw [hsz]
  refine (o_B.ofT (u_born (TYK cj) hC.hts hinw hKn hkC g1 hty)).to fun j hj => ?_
  have hjl : j < (KEYS cj).length := by rw [hlen]; exact hj
  obtain ⟨⟨key, tc⟩, hj9⟩ : ∃ z, (KEYS cj)[j]? = some z := ⟨_, List.getElem?_eq_getElem hjl⟩
  obtain ⟨t1, t2, t3, t4⟩ := htc j hj key tc hj9
  rw [← hsz]
  simp only [o_val, hj9]
  match tc with
  | 0 =>
    rw [t2 rfl]
    show Value.int 0 = Value.int (z_2 _ _ _ key (a_sz h))
    simp [z_2]
  | 1 =>
    rw [t3 rfl]
    show Value.long 0 = Value.long (z_2 _ _ _ key (a_sz h))
    simp [z_2]
  | 2 =>
    rw [t4 rfl]
    show Value.null = va_rf (z_2 _ _ _ key (a_sz h))
    simp [z_2, va_rf]
  | n + 3 =>
    exfalso
    cases hq : TYK cj j <;> rw [hq] at t1 <;> simp [ty_c] at t1
theorem BS_newarray {t : Nat} {atype : ArrayType} {ty : FieldType} (hd : decode (m_c M) pc = .ok (.newarray atype, 2)) (hty : newarray.typeOf atype = ty) (h1 : 1 ≤ t) (ht : TYS[t - 1]? = some ty) (hpr : (t ≤ 4 ∧ defaultValue ty = .int 0) ∨ (t = 5 ∧ defaultValue ty = .long 0)) (hra : ∀ (U : State) (cA : ClassId), va_RA U cA ty → U.vm.findClass ("[" ++ ty.toString) = some cA) (hcb : componentBytes ty ≤ 8) (harr : Cond.arrayClass ty ∈ lw_all) (hk : B_S M (pc + 2) k sz K) : B_S M pc (op_newa t k) sz K := by
  intro L S h r e
  unfold op_newa at e
  split at e
  · split at e
    · cases e
    · rename_i n S' hm
      obtain ⟨e1, e2⟩ := hk _ _ _ _ e
      have hz : a_sz (n_cell h (t, n.toNatClampNeg) n.toNatClampNeg) = a_sz h + 1 := rfl
      have hl9 : a_sl (n_cell h (t, n.toNatClampNeg) n.toNatClampNeg) = a_sl h + n.toNatClampNeg := rfl
      rw [hz, hl9] at e1
      refine ⟨⟨by omega, by omega⟩, fun X hC h5 h6 h7 H locs cells slots ls hR hS hc hs hl => ?_⟩
      have hcc := hC.cells
      have hss := hC.slots
      subst hty
      refine va_newaK hC.exec hC.code (hC.hts _ harr) rfl hd rfl (fun q => hm (Or.inl q)) rfl (Nat.le_trans (Nat.mul_le_mul_left _ hcb) (Nat.not_lt.mp fun q => hm (Or.inr q))) (by omega) (by omega) rfl (fun H1 cA g1 z1 o1 hAr hNm => ?_)
      have hsz := hR.2.1
      rw [← hsz]
      have hcA : (x_G X).2.1 t = cA := by
        have h9 := hra _ _ (g_tys1 hC.kf ht).2
        rw [Nat.sub_add_cancel h1] at h9
        exact Option.some.inj (h9.symm.trans hNm)
      refine e2 X hC h5 h6 h7 H1 locs _ _ ls (hR.new z1 o1 ?_) (hS.grow z1 o1) (by rw [hz]; omega) (by rw [hl9]; omega) hl
      unfold a_at
      rw [n_kd]
      dsimp only
      have ai : a_ai (n_cell h (t, n.toNatClampNeg) n.toNatClampNeg) (a_sz h) = fun _ => 0 := by funext j; show z_1 _ _ _ (a_sz h) j = _; simp [z_1]
      have al : a_al (n_cell h (t, n.toNatClampNeg) n.toNatClampNeg) (a_sz h) = fun _ => 0 := by funext j; show z_1 _ _ _ (a_sz h) j = _; simp [z_1]
      rw [ai, al, hcA, hsz, g1]
      refine ⟨fun q => ?_, fun q => ?_, fun q => by omega, fun cj hcj _ => by omega, fun q => by omega⟩
      · rcases hpr with ⟨-, hdv⟩ | ⟨h0, -⟩
        · rw [hdv, vp_cell_i]
        · omega
      · rcases hpr with ⟨h0, -⟩ | ⟨h0, hdv⟩
        · omega
        · rw [hdv, vp_cell_l]
          rw [← q, hcA]
  · cases e
theorem BS_anewarray {t idx : Nat} {C : String} (hd : decode (m_c M) pc = .ok (.anewarray idx, 3)) (h1 : 6 ≤ t) (h2 : t ≤ 8) (ht : TYS[t - 1]? = some (.object C)) (hAO : C ∈ AOS) (hcl : Cond.classLink (m_y M).cls idx C ∈ lw_all) (hk : B_S M (pc + 3) k sz K) : B_S M pc (op_newa t k) sz K := by
  intro L S h r e
  unfold op_newa at e
  split at e
  · split at e
    · cases e
    · rename_i n S' hm
      obtain ⟨e1, e2⟩ := hk _ _ _ _ e
      have hz : a_sz (n_cell h (t, n.toNatClampNeg) n.toNatClampNeg) = a_sz h + 1 := rfl
      have hl9 : a_sl (n_cell h (t, n.toNatClampNeg) n.toNatClampNeg) = a_sl h + n.toNatClampNeg := rfl
      rw [hz, hl9] at e1
      refine ⟨⟨by omega, by omega⟩, fun X hC h5 h6 h7 H locs cells slots ls hR hS hc hs hl => ?_⟩
      have hcc := hC.cells
      have hss := hC.slots
      refine W.anew hC.exec hC.code hC.own (hC.hts _ hcl) (va_AO.use (hC.kf.2.2.2.2.2.2.1 C hAO)) rfl hd rfl (fun q => hm (Or.inl q)) (by have := Nat.not_lt.mp fun q => hm (Or.inr q); omega) (by omega) (by omega) (fun cA kA comp f1 f2 f3 f4 => ?_)
      generalize hH1 : H.push ({ cls := cA, slots := Array.replicate n.toNatClampNeg .null, vm := .none } : Cell) = H1
      have z1 : H1.size = H.size + 1 := by rw [← hH1, Array.size_push]
      have g1 : H1[H.size]? = some (arrV cA n.toNatClampNeg (fun _ => .null)) := by rw [← hH1, Array.getElem?_push_size, ← arrV_new]
      have o1 : ∀ q : Nat, q < H.size → H1[q]? = H[q]? := fun q hq => by rw [← hH1, Array.getElem?_push, if_neg (Nat.ne_of_lt hq)]
      have hsz := hR.2.1
      rw [← hsz]
      have hcA : (x_G X).2.1 t = cA := by
        have h9 := (g_tys1 hC.kf ht).2
        rw [Nat.sub_add_cancel (by omega)] at h9
        obtain ⟨kA9, comp9, k1, k2, k3, k4⟩ := h9
        exact Option.some.inj (k4.symm.trans f1)
      refine e2 X hC h5 h6 h7 H1 locs _ _ ls (hR.new z1 o1 ?_) (hS.grow z1 o1) (by rw [hz]; omega) (by rw [hl9]; omega) hl
      unfold a_at
      rw [n_kd]
      dsimp only
      have ar : a_ar (n_cell h (t, n.toNatClampNeg) n.toNatClampNeg) (a_sz h) = fun _ => none := by funext j; show z_1 _ _ _ (a_sz h) j = _; simp [z_1]
      rw [ar, hcA, hsz, g1]
      exact ⟨fun q => by omega, fun q => by omega, fun q => by rw [vp_cell_q]; rfl, fun cj hcj _ => by omega, fun q => by omega⟩
  · cases e
end HR
