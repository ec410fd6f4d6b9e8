section HQ
variable {R : Type} {M : MM} {pc : Nat} {sz : R → Nat × Nat} {K : XX → R → Prop} {k : KK R}
theorem BS_gfi {idx key : Nat} {cs : List Nat} (hF : ∀ t ∈ cs, F_ok (m_y M).cls idx key 0 t) (hd : decode (m_c M) pc = .ok (.getfield idx, 3)) (hk : B_S M (pc + 3) k sz K) : B_S M pc (op_gfi cs key k) sz K := by
  intro L S h r e
  unfold op_gfi at e
  split at e
  · split at e
    · rename_i a S' hm
      obtain ⟨e1, e2⟩ := hk _ _ _ _ e
      exact ⟨e1, fun X hC h1 h2 h3 H locs cells slots ls hR hS hc hs hl => g_field hC (hF _ hm) rfl hd hR (fun ci k9 hq => by simp only [o_val, hq]) (e2 X hC h1 h2 h3 H locs cells slots ls hR hS hc hs hl)⟩
    · cases e
  · cases e
theorem BS_gfl {idx key : Nat} {cs : List Nat} (hF : ∀ t ∈ cs, F_ok (m_y M).cls idx key 1 t) (hd : decode (m_c M) pc = .ok (.getfield idx, 3)) (hk : B_S M (pc + 3) k sz K) : B_S M pc (op_gfl cs key k) sz K := by
  intro L S h r e
  unfold op_gfl at e
  split at e
  · split at e
    · rename_i a S' hm
      obtain ⟨e1, e2⟩ := hk _ _ _ _ e
      exact ⟨e1, fun X hC h1 h2 h3 H locs cells slots ls hR hS hc hs hl => g_field hC (hF _ hm) rfl hd hR (fun ci k9 hq => by simp only [o_val, hq]) (e2 X hC h1 h2 h3 H locs cells slots ls hR hS hc hs hl)⟩
    · cases e
  · cases e
theorem BS_gfr {idx key : Nat} {cs : List Nat} (hF : ∀ t ∈ cs, F_ok (m_y M).cls idx key 2 t) (hd : decode (m_c M) pc = .ok (.getfield idx, 3)) (hk : B_S M (pc + 3) k sz K) : B_S M pc (op_gfr cs key k) sz K := by
  intro L S h r e
  unfold op_gfr at e
  split at e
  · split at e
    · rename_i a S' hm
      obtain ⟨e1, e2⟩ := hk _ _ _ _ e
      exact ⟨e1, fun X hC h1 h2 h3 H locs cells slots ls hR hS hc hs hl => g_field hC (hF _ hm) rfl hd hR (fun ci k9 hq => by simp only [o_val, hq]) (e2 X hC h1 h2 h3 H locs cells slots ls hR hS hc hs hl)⟩
    · cases e
  · cases e
theorem BS_pfi {idx key : Nat} {cs : List Nat} {ty : FieldType} {fin : Bool} (hF : ∀ t ∈ cs, P_ok (m_y M).cls idx key 0 ty fin t) (hin : fin = true → (m_y M).name = "<init>") (hd : decode (m_c M) pc = .ok (.putfield idx, 3)) (hk : B_S M (pc + 3) k sz K) : B_S M pc (op_pfi ty cs key k) sz K := by
  intro L S h r e
  unfold op_pfi at e
  split at e
  · split at e
    · rename_i x a S' hm
      obtain ⟨e1, e2⟩ := hk _ _ _ _ e
      exact ⟨e1, fun X hC h1 h2 h3 H locs cells slots ls hR hS hc hs hl => g_put hC (hF _ hm.1) hin rfl hm.2.1 hd hR hS (p_ok_nar hm.2.2) (p_ok_fit hm.2.2) U_p.fi (fun H1 locs1 hR1 hS1 => e2 X hC h1 h2 h3 H1 locs1 cells slots ls hR1 hS1 hc hs hl)⟩
    · cases e
  · cases e
theorem BS_pfl {idx key : Nat} {cs : List Nat} {fin : Bool} (hF : ∀ t ∈ cs, P_ok (m_y M).cls idx key 1 .long fin t) (hin : fin = true → (m_y M).name = "<init>") (hd : decode (m_c M) pc = .ok (.putfield idx, 3)) (hk : B_S M (pc + 3) k sz K) : B_S M pc (op_pfl cs key k) sz K := by
  intro L S h r e
  unfold op_pfl at e
  split at e
  · split at e
    · rename_i x a S' hm
      obtain ⟨e1, e2⟩ := hk _ _ _ _ e
      exact ⟨e1, fun X hC h1 h2 h3 H locs cells slots ls hR hS hc hs hl => g_put hC (hF _ hm.1) hin rfl hm.2 hd hR hS rfl rfl U_p.fl (fun H1 locs1 hR1 hS1 => e2 X hC h1 h2 h3 H1 locs1 cells slots ls hR1 hS1 hc hs hl)⟩
    · cases e
  · cases e
def ty_rf : FieldType → Bool
  | .object _ => true
  | .array _ => true
  | _ => false
theorem ty_rf_ok {ty : FieldType} (h : ty_rf ty = true) (r : Option Nat) : narrow ty (va_rf r) = va_rf r ∧ fits ty (va_rf r) = true := by
  cases ty with
  | object c => cases r <;> exact ⟨rfl, rfl⟩
  | array c => cases r <;> exact ⟨rfl, rfl⟩
  | _ => cases h
theorem BS_pfr {idx key : Nat} {cs : List Nat} {ty : FieldType} {fin : Bool} (hF : ∀ t ∈ cs, P_ok (m_y M).cls idx key 2 ty fin t) (hty : ty_rf ty = true) (hin : fin = true → (m_y M).name = "<init>") (hd : decode (m_c M) pc = .ok (.putfield idx, 3)) (hk : B_S M (pc + 3) k sz K) : B_S M pc (op_pfr cs key k) sz K := by
  intro L S h r e
  unfold op_pfr at e
  split at e
  · split at e
    · rename_i v a S' hm
      split at e
      · rename_i p hp
        cases v_rf_eq hp
        obtain ⟨e1, e2⟩ := hk _ _ _ _ e
        exact ⟨e1, fun X hC h1 h2 h3 H locs cells slots ls hR hS hc hs hl => g_put hC (hF _ hm.1) hin rfl hm.2 hd hR hS (ty_rf_ok hty _).1 (ty_rf_ok hty _).2 U_p.fr (fun H1 locs1 hR1 hS1 => e2 X hC h1 h2 h3 H1 locs1 cells slots ls hR1 hS1 hc hs hl)⟩
      · cases e
    · cases e
  · cases e
/-! arrays -/
theorem b_in_vp {i : Int32} {n : Nat} (h : b_in i n = true) : vp_in i n := by
  intro q
  unfold b_in at h
  simp only [Bool.not_eq_true', Bool.or_eq_false_iff, decide_eq_false_iff_not] at h
  exact q.elim h.1 h.2
theorem R_p.arrI {G : GG} {h : AH} {H : Heap} {a t : Nat} (hR : R_p G h H) (hk : (a_kd h a).1 = t) (h1 : 1 ≤ t) (h2 : t ≤ 4) : H[a]? = some (vp_cell (G.2.1 t) ((a_kd h a).2, .inl (a_ai h a))) := by
  subst hk
  exact (hR.2.2 a).1 ⟨h1, h2⟩
theorem R_p.arrL {G : GG} {h : AH} {H : Heap} {a : Nat} (hR : R_p G h H) (hk : (a_kd h a).1 = 5) : H[a]? = some (vp_cell (G.2.1 5) ((a_kd h a).2, .inr (.inl (a_al h a)))) := (hR.2.2 a).2.1 hk
theorem R_p.arrR {G : GG} {h : AH} {H : Heap} {a t : Nat} (hR : R_p G h H) (hk : (a_kd h a).1 = t) (h1 : 6 ≤ t) (h2 : t ≤ 9) : H[a]? = some (vp_cell (G.2.1 t) ((a_kd h a).2, .inr (.inr (.inr (.inr (a_ar h a)))))) := by
  subst hk
  exact (hR.2.2 a).2.2.1 ⟨h1, h2⟩
theorem va_P1 {D : va_G} {cl : List vw_C} {q : Nat × va_E} {H : Heap} (h : va_at D cl q H) : va_P D cl [q] H := by
  intro k x hx
  match k, hx with
  | 0, hx => cases hx; exact h
  | k + 1, hx => simp at hx
theorem R_p.pI {G : GG} {h : AH} {H : Heap} {a t : Nat} (hR : R_p G h H) (hk : (a_kd h a).1 = t) (h1 : 1 ≤ t) (h2 : t ≤ 4) : va_P G.1 CLS [(a, .inl (G.2.1 t, (a_kd h a).2, .inl (a_ai h a)))] H := va_P1 (hR.arrI hk h1 h2)
theorem R_p.pL {G : GG} {h : AH} {H : Heap} {a : Nat} (hR : R_p G h H) (hk : (a_kd h a).1 = 5) : va_P G.1 CLS [(a, .inl (G.2.1 5, (a_kd h a).2, .inr (.inl (a_al h a))))] H := va_P1 (hR.arrL hk)
theorem R_p.pR {G : GG} {h : AH} {H : Heap} {a t : Nat} (hR : R_p G h H) (hk : (a_kd h a).1 = t) (h1 : 6 ≤ t) (h2 : t ≤ 9) : va_P G.1 CLS [(a, .inl (G.2.1 t, (a_kd h a).2, .inr (.inr (.inr (.inr (a_ar h a))))))] H := va_P1 (hR.arrR hk h1 h2)
theorem g_tys1 {G : GG} {U : State} {H : Heap} (h : K_F G U H) {i : Nat} {ty : FieldType} (ht : TYS[i]? = some ty) : ArrOfT U (G.2.1 (i + 1)) ty ∧ va_RA U (G.2.1 (i + 1)) ty := h.1.2 i _ (g_tys_at G ht)
theorem R_p.old {X : XX} (hC : C_X M X) {h : AH} {H : Heap} {locs : List Loc} {a t : Nat} (hR : R_p (x_G X) h H) (hS : va_S (g_A (x_G X)) (x_s X).heap H locs) (hk : (a_kd h a).1 = t + 30) (ht : 1 ≤ t) : O_ld (g_A (x_G X)) a t (a_kd h a).2 (a_ai h a) (x_s X) H := by
  have h1 := (hR.2.2 a).2.2.2.2 (by omega)
  rw [hk, Nat.add_sub_cancel] at h1
  exact (hC.kf.2.2.2.2.2.2.2.2 _ _ _ _ h1).kept hS.2.1
theorem BS_iald_g {t : Nat} {ty : FieldType} {ins : Instr} (hd : decode (m_c M) pc = .ok (ins, 1)) (h1 : 1 ≤ t) (h4 : t ≤ 4) (ht : TYS[t - 1]? = some ty)
    (row : ∀ (X : XX) (H : Heap) (locs : List Loc) (cells slots : Nat) (ls : Array Slot) (S' : SS) (a : Nat) (cell : Cell) (i v : Int32), C_X M X → H[a]? = some cell → (x_s X).isArrayOf cell ty → cell.vm ≠ .unknown → ¬ (i < 0 ∨ cell.slots.size ≤ i.toNatClampNeg) → cell.slots[i.toNatClampNeg]? = some (.int v) → W_X X H locs cells slots (F0 (x_m X) (pc + 1) ls (.int v :: S')) → W_X X H locs cells slots (F0 (x_m X) pc ls (.int i :: .ref a :: S')))
    (hk : B_S M (pc + 1) k sz K) : B_S M pc (op_iald t k) sz K := by
  intro L S h r e
  unfold op_iald at e
  split at e
  · split at e
    · rename_i i a S' hm
      obtain ⟨e1, e2⟩ := hk _ _ _ _ e
      refine ⟨e1, fun X hC h5 h6 h7 H locs cells slots ls hR hS hc hs hl => ?_⟩
      have e9 := e2 X hC h5 h6 h7 H locs cells slots ls hR hS hc hs hl
      have hin := b_in_vp hm.2
      have hlt : i.toNatClampNeg < (a_kd h a).2 := Nat.not_le.mp fun q => hin (Or.inr q)
      rcases hm.1 with hk1 | hk1
      · refine row X H locs cells slots ls S' a _ i _ hC (hR.arrI hk1 h1 h4) ?_ (fun q => by cases q) (by show ¬ (i < 0 ∨ (arrV _ _ _).slots.size ≤ _); rw [arrV_size]; exact hin) (by show (arrV _ _ _).slots[_]? = _; rw [arrV_read _ _ hlt]) e9
        have h9 := (g_tys1 hC.kf ht).1 (a_kd h a).2 (fun j => .int (a_ai h a j))
        rw [Nat.sub_add_cancel h1] at h9
        exact h9
      · obtain ⟨-, -, -, cell, ty9, g1, g2, g3, g4, g5, g6, g7⟩ := hR.old hC hS hk1 h1
        cases g2.symm.trans ht
        exact row X H locs cells slots ls S' a cell i _ hC g1 g3 g4 (fun q => q.elim (fun q => hin (Or.inl q)) (fun q => by omega)) (g7 _ hlt) e9
    · cases e
  · cases e
theorem BS_iaload (hd : decode (m_c M) pc = .ok (.iaload, 1)) (hk : B_S M (pc + 1) k sz K) : B_S M pc (op_iald 1 k) sz K :=
  BS_iald_g hd (by decide) (by decide) (ty := .int) rfl (fun X H locs cells slots ls S' a cell i v hC g1 g2 g3 g4 g5 kk => W.iald hC.exec hC.code g1 g2 g3 g4 g5 rfl rfl hd kk) hk
theorem BS_baload (hd : decode (m_c M) pc = .ok (.baload, 1)) (hk : B_S M (pc + 1) k sz K) : B_S M pc (op_iald 2 k) sz K :=
  BS_iald_g hd (by decide) (by decide) (ty := .byte) rfl (fun X H locs cells slots ls S' a cell i v hC g1 g2 g3 g4 g5 kk => W.bald hC.exec hC.code g1 g2 g3 g4 g5 rfl rfl hd kk) hk
theorem BS_zaload (hd : decode (m_c M) pc = .ok (.baload, 1)) (hk : B_S M (pc + 1) k sz K) : B_S M pc (op_iald 4 k) sz K :=
  BS_iald_g hd (by decide) (by decide) (ty := .boolean) rfl (fun X H locs cells slots ls S' a cell i v hC g1 g2 g3 g4 g5 kk => W.zald hC.exec hC.code g1 g2 g3 g4 g5 rfl rfl hd kk) hk
theorem BS_caload (hd : decode (m_c M) pc = .ok (.caload, 1)) (hk : B_S M (pc + 1) k sz K) : B_S M pc (op_iald 3 k) sz K :=
  BS_iald_g hd (by decide) (by decide) (ty := .char) rfl (fun X H locs cells slots ls S' a cell i v hC g1 g2 g3 g4 g5 kk => W.cald hC.exec hC.code g1 g2 g3 g4 g5 rfl rfl hd kk) hk
theorem BS_laload (hd : decode (m_c M) pc = .ok (.laload, 1)) (hk : B_S M (pc + 1) k sz K) : B_S M pc (op_lald k) sz K := by
  intro L S h r e
  unfold op_lald at e
  split at e
  · split at e
    · rename_i i a S' hm
      obtain ⟨e1, e2⟩ := hk _ _ _ _ e
      exact ⟨e1, fun X hC h5 h6 h7 H locs cells slots ls hR hS hc hs hl => va_lald hC.exec hC.code hC.kf.1 (hR.pL hm.1) 0 4 rfl (g_tys_at _ (i := 4) rfl) (b_in_vp hm.2) hd (e2 X hC h5 h6 h7 H locs cells slots ls hR hS hc hs hl)⟩
    · cases e
  · cases e
theorem BS_aaload {t : Nat} {C : String} (hd : decode (m_c M) pc = .ok (.aaload, 1)) (h1 : 6 ≤ t) (h2 : t ≤ 9) (ht : TYS[t - 1]? = some (.object C)) (hk : B_S M (pc + 1) k sz K) : B_S M pc (op_aald t k) sz K := by
  intro L S h r e
  unfold op_aald at e
  split at e
  · split at e
    · rename_i i a S' hm
      obtain ⟨e1, e2⟩ := hk _ _ _ _ e
      exact ⟨e1, fun X hC h5 h6 h7 H locs cells slots ls hR hS hc hs hl => va_aldq hC.exec hC.code hC.kf.1 (hR.pR hm.1 h1 h2) 0 (t - 1) rfl (by rw [g_tys_at _ ht, Nat.sub_add_cancel (by omega)]) (b_in_vp hm.2) hd (e2 X hC h5 h6 h7 H locs cells slots ls hR hS hc hs hl)⟩
    · cases e
  · cases e
theorem BS_alen (hd : decode (m_c M) pc = .ok (.arraylength, 1)) (hk : B_S M (pc + 1) k sz K) : B_S M pc (op_alen k) sz K := by
  intro L S h r e
  unfold op_alen at e
  split at e
  · split at e
    · rename_i a S' hm
      obtain ⟨e1, e2⟩ := hk _ _ _ _ e
      refine ⟨e1, fun X hC h5 h6 h7 H locs cells slots ls hR hS hc hs hl => ?_⟩
      rcases hm with hm | hm
      case inr =>
        have hk1 : (a_kd h a).1 = ((a_kd h a).1 - 30) + 30 := by omega
        obtain ⟨-, -, -, cell, ty9, g1, g2, g3, g4, g5, g6, g7⟩ := hR.old hC hS hk1 (by omega)
        exact W.alen hC.exec hC.code g1 g3 g6 rfl rfl hd (e2 X hC h5 h6 h7 H locs cells slots ls hR hS hc hs hl)
      have hlt : (a_kd h a).1 - 1 < TYS.length := by show _ < 8; omega
      have ht : TYS[(a_kd h a).1 - 1]? = some TYS[(a_kd h a).1 - 1] := List.getElem?_eq_getElem hlt
      have ht9 := g_tys_at (x_G X) ht
      rw [Nat.sub_add_cancel hm.1] at ht9
      by_cases q1 : (a_kd h a).1 ≤ 4
      · exact va_alen hC.exec hC.code hC.kf.1 (hR.pI rfl hm.1 q1) 0 _ rfl ht9 rfl hd (e2 X hC h5 h6 h7 H locs cells slots ls hR hS hc hs hl)
      · by_cases q2 : (a_kd h a).1 = 5
        · exact va_alen hC.exec hC.code hC.kf.1 (hR.pL q2) 0 4 rfl (g_tys_at _ (i := 4) rfl) rfl hd (e2 X hC h5 h6 h7 H locs cells slots ls hR hS hc hs hl)
        · exact va_alen hC.exec hC.code hC.kf.1 (hR.pR rfl (by omega) (by omega)) 0 _ rfl ht9 rfl hd (e2 X hC h5 h6 h7 H locs cells slots ls hR hS hc hs hl)
    · cases e
  · cases e
/-- one place of an array is changed -/
theorem R_p.setI {G : GG} {h : AH} {H H1 : Heap} {a t j : Nat} {x : Int32} (hR : R_p G h H) (hk : (a_kd h a).1 = t) (ht : 1 ≤ t ∧ t ≤ 4) (e1 : H1[a]? = some ((vp_cell (G.2.1 t) ((a_kd h a).2, .inl (a_ai h a))).setSlot j (.int x))) (e2 : H1.size = H.size) (e3 : ∀ q, q ≠ a → H1[q]? = H[q]?) : R_p G (s_ai h a j x) H1 := by
  refine ⟨hR.1, hR.2.1.trans e2.symm, fun b => ?_⟩
  by_cases hb : b = a
  · subst hb
    have hv : a_ai (s_ai h b j x) b = upd (a_ai h b) j x := by
      funext i
      show u_2 _ _ _ _ b i = _
      simp [u_2, upd]
    have hkd : a_kd (s_ai h b j x) b = a_kd h b := rfl
    unfold a_at
    rw [hkd, hk, hv]
    refine ⟨fun _ => ?_, fun q => by omega, fun q => by omega, fun ci q _ => by omega, fun q => by omega⟩
    rw [e1, vp_cell_i, vp_cell_i, arrV_store]
    congr 2
    funext q
    by_cases hq : q = j
    · subst hq; simp [updV, upd]
    · simp [updV, upd, hq]
  · refine (hR.2.2 b).to (e3 b hb) rfl (fun _ => rfl) (fun _ => rfl) (fun _ => rfl) ?_ rfl rfl
    funext i
    show u_2 _ _ _ _ b i = _
    simp [u_2, hb]
theorem R_p.setL {G : GG} {h : AH} {H H1 : Heap} {a j : Nat} {x : Int64} (hR : R_p G h H) (hk : (a_kd h a).1 = 5) (e1 : H1[a]? = some ((vp_cell (G.2.1 5) ((a_kd h a).2, .inr (.inl (a_al h a)))).setSlot j (.long x))) (e2 : H1.size = H.size) (e3 : ∀ q, q ≠ a → H1[q]? = H[q]?) : R_p G (s_al h a j x) H1 := by
  refine ⟨hR.1, hR.2.1.trans e2.symm, fun b => ?_⟩
  by_cases hb : b = a
  · subst hb
    have hv : a_al (s_al h b j x) b = fun i => if i = j then x else a_al h b i := by
      funext i
      show u_2 _ _ _ _ b i = _
      simp [u_2]
    have hkd : a_kd (s_al h b j x) b = a_kd h b := rfl
    unfold a_at
    rw [hkd, hk, hv]
    refine ⟨fun q => by omega, fun _ => ?_, fun q => by omega, fun ci q _ => by omega, fun q => by omega⟩
    rw [e1, vp_cell_l, vp_cell_l, arrV_store]
    congr 2
    funext q
    by_cases hq : q = j
    · subst hq; simp [updV]
    · simp [updV, hq]
  · refine (hR.2.2 b).to (e3 b hb) rfl (fun _ => rfl) (fun _ => rfl) (fun _ => rfl) rfl ?_ rfl
    funext i
    show u_2 _ _ _ _ b i = _
    simp [u_2, hb]
theorem R_p.setR {G : GG} {h : AH} {H H1 : Heap} {a t j : Nat} {x : Option Nat} (hR : R_p G h H) (hk : (a_kd h a).1 = t) (ht : 6 ≤ t ∧ t ≤ 9) (e1 : H1[a]? = some ((vp_cell (G.2.1 t) ((a_kd h a).2, .inr (.inr (.inr (.inr (a_ar h a)))))).setSlot j (va_rf x))) (e2 : H1.size = H.size) (e3 : ∀ q, q ≠ a → H1[q]? = H[q]?) : R_p G (s_ar h a j x) H1 := by
  refine ⟨hR.1, hR.2.1.trans e2.symm, fun b => ?_⟩
  by_cases hb : b = a
  · subst hb
    have hv : a_ar (s_ar h b j x) b = fun i => if i = j then x else a_ar h b i := by
      funext i
      show u_2 _ _ _ _ b i = _
      simp [u_2]
    have hkd : a_kd (s_ar h b j x) b = a_kd h b := rfl
    unfold a_at
    rw [hkd, hk, hv]
    refine ⟨fun q => by omega, fun q => by omega, fun _ => ?_, fun ci q _ => by omega, fun q => by omega⟩
    rw [e1, vp_cell_q, vp_cell_q, arrV_store]
    congr 2
    funext q
    by_cases hq : q = j
    · subst hq; simp [updV]
    · simp [updV, hq]
  · refine (hR.2.2 b).to (e3 b hb) rfl (fun _ => rfl) (fun _ => rfl) (fun _ => rfl) rfl rfl ?_
    funext i
    show u_2 _ _ _ _ b i = _
    simp [u_2, hb]
theorem R_p.low {G : GG} {h : AH} {H : Heap} {a : Nat} (hR : R_p G h H) (ha : a_lo h ≤ a) : g_A G a := by
  have e9 := hR.1
  unfold a_lo at ha
  rw [e9] at ha
  exact ha
end HQ
