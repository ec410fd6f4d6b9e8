section HV
variable {R : Type} {M : MM} {pc : Nat} {sz : R → Nat × Nat} {K : XX → R → Prop} {k : KK R}
theorem ao_6 : ∀ u ∈ [21, 22, 23, 24], A_ok "LongerHalf$Person" u := List.forall_mem_cons.mpr ⟨⟨11, _, rfl, rfl, Or.inr q2463⟩, List.forall_mem_cons.mpr ⟨⟨12, _, rfl, rfl, Or.inr q2462⟩, List.forall_mem_cons.mpr ⟨⟨13, _, rfl, rfl, Or.inr q2461⟩, List.forall_mem_cons.mpr ⟨⟨14, _, rfl, rfl, Or.inr q2460⟩, fun _ h => absurd h List.not_mem_nil⟩⟩⟩⟩
theorem ao_7 : ∀ u ∈ [13], A_ok "LongerHalf$Drawer" u := List.forall_mem_cons.mpr ⟨⟨3, _, rfl, rfl, Or.inl rfl⟩, fun _ h => absurd h List.not_mem_nil⟩
theorem ao_8 : ∀ u ∈ [18, 19, 20], A_ok "LongerHalf$Bone" u := List.forall_mem_cons.mpr ⟨⟨8, _, rfl, rfl, Or.inr q2485⟩, List.forall_mem_cons.mpr ⟨⟨9, _, rfl, rfl, Or.inr q2486⟩, List.forall_mem_cons.mpr ⟨⟨10, _, rfl, rfl, Or.inr q2487⟩, fun _ h => absurd h List.not_mem_nil⟩⟩⟩
theorem ao_S : ∀ u ∈ [27], A_ok "java/lang/String" u := List.forall_mem_cons.mpr ⟨⟨17, _, rfl, rfl, Or.inl rfl⟩, fun _ h => absurd h List.not_mem_nil⟩
theorem ti_Person : T_in "LongerHalf$Person" := ⟨11, _, rfl, Or.inr q2463⟩
theorem ti_String : T_in "java/lang/String" := ⟨17, _, rfl, Or.inl rfl⟩
theorem no_B : ∀ u ∈ [18, 19, 20], N_ok "LongerHalf$Person" u := List.forall_mem_cons.mpr ⟨⟨8, _, rfl, rfl, List.mem_of_getElem? (i := 0) rfl⟩, List.forall_mem_cons.mpr ⟨⟨9, _, rfl, rfl, List.mem_of_getElem? (i := 1) rfl⟩, List.forall_mem_cons.mpr ⟨⟨10, _, rfl, rfl, List.mem_of_getElem? (i := 2) rfl⟩, fun _ h => absurd h List.not_mem_nil⟩⟩⟩
/-- a place of an array of bones, or of people -/
def op_aald2 (k : KK R) : KK R := fun L S h => match S with
  | .int i :: .ref a :: S' => if ((a_kd h a).1 = 6 ∨ (a_kd h a).1 = 8) ∧ b_in i (a_kd h a).2 = true then k L (va_rf (a_ar h a i.toNatClampNeg) :: S') h else none
  | _ => none
theorem BS_aaload2 (hd : decode (m_c M) pc = .ok (.aaload, 1)) (hk : B_S M (pc + 1) k sz K) : B_S M pc (op_aald2 k) sz K := by
  intro L S h r e
  unfold op_aald2 at e
  split at e
  · split at e
    · rename_i i a S' hm
      obtain ⟨e1, e2⟩ := hk _ _ _ _ e
      refine ⟨e1, fun X hC h5 h6 h7 H locs cells slots ls hR hS hc hs hl => ?_⟩
      rcases hm.1 with q | q
      · exact va_aldq hC.exec hC.code hC.kf.1 (hR.pR q (by decide) (by decide)) 0 5 rfl (g_tys_at _ (i := 5) rfl) (b_in_vp hm.2) hd (e2 X hC h5 h6 h7 H locs cells slots ls hR hS hc hs hl)
      · exact va_aldq hC.exec hC.code hC.kf.1 (hR.pR q (by decide) (by decide)) 0 7 rfl (g_tys_at _ (i := 7) rfl) (b_in_vp hm.2) hd (e2 X hC h5 h6 h7 H locs cells slots ls hR hS hc hs hl)
    · cases e
  · cases e
theorem BS_castB {idx : Nat} (hd : decode (m_c M) pc = .ok (.checkcast idx, 3)) (hcl : Cond.classLink (m_y M).cls idx "[B" ∈ lw_all) (hk : B_S M (pc + 3) k sz K) : B_S M pc (op_cast [2] k) sz K := by
  intro L S h r e
  unfold op_cast at e
  split at e
  · split at e
    · rename_i a S' hm
      have hm : (a_kd h a).1 = 2 := by simpa using hm
      obtain ⟨e1, e2⟩ := hk _ _ _ _ e
      exact ⟨e1, fun X hC h5 h6 h7 H locs cells slots ls hR hS hc hs hl => va_castA hC.exec hC.code hC.own (hC.hts _ hcl) (hR.pI hm (by decide) (by decide)) 0 rfl (g_tys1 hC.kf (i := 1) rfl).2 hd (e2 X hC h5 h6 h7 H locs cells slots ls hR hS hc hs hl)⟩
    · cases e
  · obtain ⟨e1, e2⟩ := hk _ _ _ _ e
    exact ⟨e1, fun X hC h5 h6 h7 H locs cells slots ls hR hS hc hs hl => lv_castN hC.exec hC.code hd (e2 X hC h5 h6 h7 H locs cells slots ls hR hS hc hs hl)⟩
  · cases e
theorem va_Wcopy {p : Program} {l : Launch} {e : Env} {R : Room} {s : State} {m : MethodId} {args : Array Value} {below : List Frame} {meth : Method} {c : Code} {H : Heap} {locs : List Loc} {cells slots : Nat} {Q : State → Prop} {cc : ByteArray} {ls : Array Slot} {rest : List Value} {pc : Nat} (hexec : p.tables.exec = Jvm.exec) (hb : c.code = cc) (hml : c.maxLocals = ls.size) {own : String} {index : Nat} (hown : s.vm.findClass own = some m.cls) (hlink : (Cond.methodLink own index arraycopyName).before args s = true) (hnat : (Cond.native arraycopyName).before args s = true) (hstat : (Cond.static arraycopyName).before args s = true) (hini : (Cond.initialized "java/lang/System").before args s = true)
    {a a0 : Nat} {c0 c1 : ClassId} {n0 n1 : Nat} {f g : Nat → Int32} {ty : FieldType} (hc0 : H[a0]? = some (vp_cell c0 (n0, .inl f))) (hc1 : H[a]? = some (vp_cell c1 (n1, .inl g))) (ht0 : ArrOfT s c0 ty) (ht1 : ArrOfT s c1 ty) (hprim : refKind ty = false)
    {sp dp n : Int32} (h1 : ¬ sp < 0) (h2 : ¬ dp < 0) (h3 : ¬ n < 0) (h4 : sp.toNatClampNeg + n.toNatClampNeg ≤ n0) (h5 : dp.toNatClampNeg + n.toNatClampNeg ≤ n1) (hfit : ∀ i, i < n.toNatClampNeg → fits ty (.int (f (sp.toNatClampNeg + i))) = true)
    (hframes : 1 ≤ R.frames) (hlocals : (rest.map fun v => v.category).sum + (nativeFrameWords "java/lang/System" "arraycopy" 5 + 11) ≤ R.locals) (hdg : decode cc pc = .ok (.invokestatic index, 3))
    (kk : ∀ (H1 : Heap) (locs1 : List Loc), H1[a]? = some (vp_cell c1 (n1, .inl (va_cpy f g sp.toNatClampNeg dp.toNatClampNeg n.toNatClampNeg))) → H1.size = H.size → (∀ q, q ≠ a → H1[q]? = H[q]?) → (∀ q ∈ locs1, q ∈ locs ∨ q.base = a) → W p l e R s m args below meth c H1 locs1 cells slots Q (F0 m (pc + 3) ls rest)) : W p l e R s m args below meth c H locs cells slots Q (F0 m pc ls (.int n :: .int dp :: .ref a :: .int sp :: .ref a0 :: rest)) := by
  have nn : ∀ z : Int32, ¬ z < 0 → z.toInt = (z.toNatClampNeg : Int) := by
    intro z hz
    have hz0 : (0 : Int) ≤ z.toInt := by
      have := Int32.not_lt.mp hz
      simpa using Int32.le_iff_toInt_le.mp this
    show z.toInt = ((z.toInt.toNat : Nat) : Int)
    omega
  intro T hT X
  obtain ⟨-, k0, hk0, cm0, hkk0⟩ := ht0 n0 (fun j => .int (f j))
  obtain ⟨-, k1, hk1, cm1, hkk1⟩ := ht1 n1 (fun j => .int (g j))
  obtain ⟨vm', X', step⟩ := X.arraycopy hexec hown hlink hnat hstat hini (src := a0) (dst := a) (cs := vp_cell c0 (n0, .inl f)) (cd := vp_cell c1 (n1, .inl g)) (srcPos := sp) (destPos := dp) (n := n) (by rw [hT]; exact hc0) (by rw [hT]; exact hc1)
    (fun _ h => by cases h) (fun _ h => by cases h) (fun h => by cases h) (fun h => by cases h) hk0 hk1 hkk0 hkk1 (by simp [hprim]) h1 h2 h3
    (by rw [nn sp h1, nn n h3]; show ¬ _ > ((arrV c0 n0 (fun j => .int (f j))).slots.size : Int); rw [arrV_size]; omega)
    (by rw [nn dp h2, nn n h3]; show ¬ _ > ((arrV c1 n1 (fun j => .int (g j))).slots.size : Int); rw [arrV_size]; omega)
    (fun vm₁ _ i hi => by
      have e : (vp_cell c0 (n0, .inl f)).slots.getD (sp.toNatClampNeg + i) .null = .int (f (sp.toNatClampNeg + i)) := by
        show (arrV c0 n0 (fun j => .int (f j))).slots.getD _ _ = _
        rw [Array.getD_eq_getD_getElem?, arrV_read _ _ (by omega)]
        rfl
      refine ⟨?_, ?_⟩
      · rw [e]
        exact hfit i hi
      · rw [e]
        exact trivial)
    (g := F0 m pc ls (.int n :: .int dp :: .ref a :: .int sp :: .ref a0 :: rest)) rfl (by rw [hml]) (rest := rest) rfl (by rw [hb]; exact hdg) hframes (by show 2 * 0 + _ + _ ≤ _; omega)
  have e1 : copied (vp_cell c0 (n0, .inl f)) (vp_cell c1 (n1, .inl g)) sp dp n = vp_cell c1 (n1, .inl (va_cpy f g sp.toNatClampNeg dp.toNatClampNeg n.toNatClampNeg)) := va_copied (fun z => .int z) c0 c1 f g h4
  rw [e1] at X' step
  have hl : a < H.size := (Array.getElem?_eq_some_iff.mp hc1).1
  have hheap : ((T.setVm vm').setCell a (vp_cell c1 (n1, .inl (va_cpy f g sp.toNatClampNeg dp.toNatClampNeg n.toNatClampNeg)))).heap = H.setIfInBounds a (vp_cell c1 (n1, .inl (va_cpy f g sp.toNatClampNeg dp.toNatClampNeg n.toNatClampNeg))) := by rw [← hT]; rfl
  have oq : ∀ q : Nat, q ≠ a → (H.setIfInBounds a (vp_cell c1 (n1, .inl (va_cpy f g sp.toNatClampNeg dp.toNatClampNeg n.toNatClampNeg))))[q]? = H[q]? := fun q hq => by simp [Array.getElem?_setIfInBounds, Ne.symm hq]
  obtain ⟨t, a1, b1⟩ := kk _ _ (show (H.setIfInBounds a _)[a]? = some _ by simp [Array.getElem?_setIfInBounds, hl]) (by simp) oq (fun q hq => by
      rcases List.mem_append.mp hq with h | h
      · exact Or.inl h
      · obtain ⟨z, -, hz⟩ := List.mem_map.mp h
        rw [← hz]
        exact Or.inr rfl) _ hheap X'
  exact ⟨t, step t a1, b1⟩
theorem BS_copy {idx : Nat} (hd : decode (m_c M) pc = .ok (.invokestatic idx, 3)) (hlink : Cond.methodLink (m_y M).cls idx arraycopyName ∈ lw_all) (hf : 1 ≤ m_f M) (hlo : 60 ≤ m_l M) (hk : B_S M (pc + 3) k sz K) : B_S M pc (op_copy k) sz K := by
  intro L S h r e
  unfold op_copy at e
  split at e
  · split at e
    · rename_i n dp b sp a S' hm
      obtain ⟨m1, m2, m3, m4, m5, m6, m7, m8, m9, m10⟩ := hm
      obtain ⟨e1, e2⟩ := hk _ _ _ _ e
      refine ⟨e1, fun X hC h5 h6 h7 H locs cells slots ls hR hS hc hs hl => ?_⟩
      refine va_Wcopy hC.exec hC.code (by rw [hC.maxL]; exact hl.1.symm) hC.own (hC.hts _ hlink) (hC.hts _ q1537) (hC.hts _ q1536) (hC.hts _ q166) (hR.arrI m1 (by decide) (by decide)) (hR.arrI m2 (by decide) (by decide)) (g_tys1 hC.kf (i := 0) rfl).1 (g_tys1 hC.kf (i := 0) rfl).1 rfl m6 m5 m4 m7 m8 (fun i hi => rfl) (by rw [hC.frames]; exact hf) ?_ hd (fun H1 locs1 g1 g2 g3 g4 => ?_)
      · rw [hC.locals]
        have : nativeFrameWords "java/lang/System" "arraycopy" 5 = 7 := by decide +kernel
        rw [this]
        have : (S'.map fun v => v.category).sum = c_sum S' := rfl
        omega
      · refine e2 X hC h5 h6 h7 H1 locs1 cells slots ls ⟨hR.1, hR.2.1.trans g2.symm, fun q => ?_⟩ ⟨by rw [g2]; exact hS.1, fun q q1 q2 => ?_, fun q hq => ?_⟩ hc hs hl
        · by_cases hq : q = b
          · subst hq
            have hv : a_ai (s_cp h a sp.toNatClampNeg q dp.toNatClampNeg n.toNatClampNeg) q = va_cpy (a_ai h a) (a_ai h q) sp.toNatClampNeg dp.toNatClampNeg n.toNatClampNeg := by
              funext j
              show (if q = q ∧ dp.toNatClampNeg ≤ j ∧ j < dp.toNatClampNeg + n.toNatClampNeg then a_ai h a (sp.toNatClampNeg + (j - dp.toNatClampNeg)) else a_ai h q j) = _
              unfold va_cpy
              by_cases hj : dp.toNatClampNeg ≤ j ∧ j < dp.toNatClampNeg + n.toNatClampNeg
              · rw [if_pos ⟨rfl, hj⟩, if_pos hj]
              · rw [if_neg (fun w => hj w.2), if_neg hj]
            have hkd : a_kd (s_cp h a sp.toNatClampNeg q dp.toNatClampNeg n.toNatClampNeg) q = a_kd h q := rfl
            unfold a_at
            rw [hkd, hv, m2]
            exact ⟨fun _ => g1, fun w => by omega, fun w => by omega, fun ci w _ => by omega, fun w => by omega⟩
          · refine (hR.2.2 q).to (g3 q hq) rfl (fun _ => rfl) (fun _ => rfl) (fun _ => rfl) ?_ rfl rfl
            funext j
            show (if q = b ∧ _ then _ else a_ai h q j) = _
            rw [if_neg (fun w => hq w.1)]
        · rw [g3 q (fun w => q2 (by rw [w]; exact hR.low m3))]
          exact hS.2.1 q q1 q2
        · rcases g4 q hq with w | w
          · exact hS.2.2 q w
          · show g_A (x_G X) q.base
            rw [w]
            exact hR.low m3
    · cases e
  · cases e
/-! methods with handlers -/
theorem Con_ofW {y : MethodName} {cc : ByteArray} {nL fr lo : Nat} {ret : Option FieldType} {hh : List (Nat × Nat × Nat × Nat)} {B : KK OO} (hy : plainName y.cls = true)
    (hB : B_S (y, cc, ret, fr, lo, nL, tableOf hh) 0 B z_O k_O) : Con_ y (wsW_ y cc nL ret hh) fr lo (mk_F nL B) := by
  intro av h o hF
  unfold mk_F at hF
  by_cases hav : (l_args av).length ≤ nL
  case neg => rw [if_neg hav] at hF; cases hF
  rw [if_pos hav] at hF
  obtain ⟨mono, hB⟩ := hB _ _ _ _ hF
  have mono : a_sz h ≤ a_sz o.2 ∧ a_sl h ≤ a_sl o.2 := mono
  refine ⟨mono, fun l G hl => vx_ofWH (cc := cc) (maxL := nL) (ret := ret) (hh := hh) hy rfl ?_⟩
  intro p e s m args below meth c s₁ Bd hml hv
  obtain ⟨rfl, ⟨hKF, hRp⟩, hlo⟩ := hv
  have hts0 := atoms_spec (ws := wsW_ y cc nL ret hh) Bd.pre
  have hts : ∀ w ∈ lw_all, w.before _ s = true := fun w h => hts0 w (List.mem_cons_of_mem _ h)
  have hown : s.vm.findClass y.cls = some m.cls := findClass_of_methodNamed Bd.named
  have hlk := Bd.notSynchronized
  have hin : meth.name = y.name := (name_of_methodNamed Bd.named Bd.method).1
  have htab : c.exceptionTable.toList = tableOf hh := vx_table (x := y) Bd (hts0 _ List.mem_cons_self)
  have hW := hB (p, l, e, { frames := fr, cells := a_sz o.2 - a_sz h, slots := a_sl o.2 - a_sl h, locals := lo }, s, m, av.toArray, below, meth, c, o, G, nL, a_sz h, a_sl h)
    ⟨Bd.exec, Bd.bytes, ⟨hml, rfl⟩, hown, hts, hlk, Bd.returns, hin, hKF, hlo, hl, rfl, rfl, htab, Nat.le_of_eq (Nat.sub_add_cancel mono.1).symm, Nat.le_of_eq (Nat.sub_add_cancel mono.2).symm⟩ (Nat.le_refl _) (Nat.le_refl _) rfl
  rw [lg_entry_eq]
  exact hW s.heap [] 0 0 _ hRp va_S.rf (Nat.zero_add _) (Nat.zero_add _) (l_ent_rel (lv_entry av (by rw [l_args_len]; exact hav)))
end HV
