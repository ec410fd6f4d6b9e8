/-! A row an instruction: the pure ones (printed by mkrows1.py) -/
section ROWS
variable {R : Type} {M : MM} {pc : Nat} {sz : R → Nat × Nat} {K : XX → R → Prop} {k k1 k2 : KK R}
theorem BS_iconst {n : Int} {v : Int32} (hd : decode (m_c M) pc = .ok (.iconst n, 1)) (hv : Int32.ofInt n = v) (hk : B_S M (pc + 1) k sz K) : B_S M pc (op_push (.int v) k) sz K := by
  intro L S h r e
  obtain ⟨e1, e2⟩ := hk _ _ _ _ e
  exact ⟨e1, fun X hC h1 h2 h3 H locs cells slots ls hR hS hc hs hl => lv_iconst hC.exec hC.code hd hv (e2 X hC h1 h2 h3 H locs cells slots ls hR hS hc hs hl)⟩
theorem BS_bipush {n : Int} {v : Int32} (hd : decode (m_c M) pc = .ok (.bipush n, 2)) (hv : (Int8.ofInt n).toInt32 = v) (hk : B_S M (pc + 2) k sz K) : B_S M pc (op_push (.int v) k) sz K := by
  intro L S h r e
  obtain ⟨e1, e2⟩ := hk _ _ _ _ e
  exact ⟨e1, fun X hC h1 h2 h3 H locs cells slots ls hR hS hc hs hl => lv_bipush hC.exec hC.code hd hv (e2 X hC h1 h2 h3 H locs cells slots ls hR hS hc hs hl)⟩
theorem BS_sipush {n : Int} {v : Int32} (hd : decode (m_c M) pc = .ok (.sipush n, 3)) (hv : (Int16.ofInt n).toInt32 = v) (hk : B_S M (pc + 3) k sz K) : B_S M pc (op_push (.int v) k) sz K := by
  intro L S h r e
  obtain ⟨e1, e2⟩ := hk _ _ _ _ e
  exact ⟨e1, fun X hC h1 h2 h3 H locs cells slots ls hR hS hc hs hl => lv_sipush hC.exec hC.code hd hv (e2 X hC h1 h2 h3 H locs cells slots ls hR hS hc hs hl)⟩
theorem BS_lconst {n : Fin 2} {v : Int64} (hd : decode (m_c M) pc = .ok (.lconst n, 1)) (hv : Int64.ofNat (n : Nat) = v) (hk : B_S M (pc + 1) k sz K) : B_S M pc (op_push (.long v) k) sz K := by
  intro L S h r e
  obtain ⟨e1, e2⟩ := hk _ _ _ _ e
  exact ⟨e1, fun X hC h1 h2 h3 H locs cells slots ls hR hS hc hs hl => lv_lconst hC.exec hC.code hd hv (e2 X hC h1 h2 h3 H locs cells slots ls hR hS hc hs hl)⟩
theorem BS_ldc {i : Nat} {v : Int32} (hd : decode (m_c M) pc = .ok (.ldc i, 2)) (hw : Cond.constant (m_y M).cls i v ∈ lw_all) (hk : B_S M (pc + 2) k sz K) : B_S M pc (op_push (.int v) k) sz K := by
  intro L S h r e
  obtain ⟨e1, e2⟩ := hk _ _ _ _ e
  exact ⟨e1, fun X hC h1 h2 h3 H locs cells slots ls hR hS hc hs hl => lv_ldc hC.exec hC.code hC.own (hC.hts _ hw) hd (e2 X hC h1 h2 h3 H locs cells slots ls hR hS hc hs hl)⟩
theorem BS_ldcw {i : Nat} {v : Int32} (hd : decode (m_c M) pc = .ok (.ldc_w i, 3)) (hw : Cond.constant (m_y M).cls i v ∈ lw_all) (hk : B_S M (pc + 3) k sz K) : B_S M pc (op_push (.int v) k) sz K := by
  intro L S h r e
  obtain ⟨e1, e2⟩ := hk _ _ _ _ e
  exact ⟨e1, fun X hC h1 h2 h3 H locs cells slots ls hR hS hc hs hl => lv_ldcw hC.exec hC.code hC.own (hC.hts _ hw) hd (e2 X hC h1 h2 h3 H locs cells slots ls hR hS hc hs hl)⟩
theorem BS_ldc2 {i : Nat} {v : Int64} (hd : decode (m_c M) pc = .ok (.ldc2_w i, 3)) (hw : Cond.constantLong (m_y M).cls i v ∈ lw_all) (hk : B_S M (pc + 3) k sz K) : B_S M pc (op_push (.long v) k) sz K := by
  intro L S h r e
  obtain ⟨e1, e2⟩ := hk _ _ _ _ e
  exact ⟨e1, fun X hC h1 h2 h3 H locs cells slots ls hR hS hc hs hl => lv_ldc2 hC.exec hC.code hC.own (hC.hts _ hw) hd (e2 X hC h1 h2 h3 H locs cells slots ls hR hS hc hs hl)⟩
theorem BS_null (hd : decode (m_c M) pc = .ok (.aconst_null, 1)) (hk : B_S M (pc + 1) k sz K) : B_S M pc (op_push (.null) k) sz K := by
  intro L S h r e
  obtain ⟨e1, e2⟩ := hk _ _ _ _ e
  exact ⟨e1, fun X hC h1 h2 h3 H locs cells slots ls hR hS hc hs hl => lv_null hC.exec hC.code hd (e2 X hC h1 h2 h3 H locs cells slots ls hR hS hc hs hl)⟩
theorem BS_iload_n {i : Nat} {j : Fin 4} (hd : decode (m_c M) pc = .ok (.iload_n j, 1)) (hi : (j : Nat) = i) (hk : B_S M (pc + 1) k sz K) : B_S M pc (op_ild i k) sz K := by
  intro L S h r e
  unfold op_ild at e
  split at e
  · rename_i x hx
    obtain ⟨e1, e2⟩ := hk _ _ _ _ e
    exact ⟨e1, fun X hC h1 h2 h3 H locs cells slots ls hR hS hc hs hl => lv_iload_n hC.exec hC.code hd hi (hl.2.2 _ _ hx) (e2 X hC h1 h2 h3 H locs cells slots ls hR hS hc hs hl)⟩
  · cases e
theorem BS_iload {i : Nat} (hd : decode (m_c M) pc = .ok (.iload i, 2)) (hk : B_S M (pc + 2) k sz K) : B_S M pc (op_ild i k) sz K := by
  intro L S h r e
  unfold op_ild at e
  split at e
  · rename_i x hx
    obtain ⟨e1, e2⟩ := hk _ _ _ _ e
    exact ⟨e1, fun X hC h1 h2 h3 H locs cells slots ls hR hS hc hs hl => lv_iload hC.exec hC.code hd (hl.2.2 _ _ hx) (e2 X hC h1 h2 h3 H locs cells slots ls hR hS hc hs hl)⟩
  · cases e
theorem BS_lload_n {i : Nat} {j : Fin 4} (hd : decode (m_c M) pc = .ok (.lload_n j, 1)) (hi : (j : Nat) = i) (hk : B_S M (pc + 1) k sz K) : B_S M pc (op_lld i k) sz K := by
  intro L S h r e
  unfold op_lld at e
  split at e
  · rename_i x hx
    obtain ⟨e1, e2⟩ := hk _ _ _ _ e
    exact ⟨e1, fun X hC h1 h2 h3 H locs cells slots ls hR hS hc hs hl => lv_lload_n hC.exec hC.code hd hi (hl.2.2 _ _ hx) (e2 X hC h1 h2 h3 H locs cells slots ls hR hS hc hs hl)⟩
  · cases e
theorem BS_lload {i : Nat} (hd : decode (m_c M) pc = .ok (.lload i, 2)) (hk : B_S M (pc + 2) k sz K) : B_S M pc (op_lld i k) sz K := by
  intro L S h r e
  unfold op_lld at e
  split at e
  · rename_i x hx
    obtain ⟨e1, e2⟩ := hk _ _ _ _ e
    exact ⟨e1, fun X hC h1 h2 h3 H locs cells slots ls hR hS hc hs hl => lv_lload hC.exec hC.code hd (hl.2.2 _ _ hx) (e2 X hC h1 h2 h3 H locs cells slots ls hR hS hc hs hl)⟩
  · cases e
theorem BS_aload_n {i : Nat} {j : Fin 4} (hd : decode (m_c M) pc = .ok (.aload_n j, 1)) (hi : (j : Nat) = i) (hk : B_S M (pc + 1) k sz K) : B_S M pc (op_ald i k) sz K := by
  intro L S h r e
  unfold op_ald at e
  split at e
  · rename_i x hx
    obtain ⟨e1, e2⟩ := hk _ _ _ _ e
    exact ⟨e1, fun X hC h1 h2 h3 H locs cells slots ls hR hS hc hs hl => lv_aload_n hC.exec hC.code hd hi (hl.2.2 _ _ hx) (e2 X hC h1 h2 h3 H locs cells slots ls hR hS hc hs hl)⟩
  · rename_i hx
    obtain ⟨e1, e2⟩ := hk _ _ _ _ e
    exact ⟨e1, fun X hC h1 h2 h3 H locs cells slots ls hR hS hc hs hl => lv_aload_nN hC.exec hC.code hd hi (hl.2.2 _ _ hx) (e2 X hC h1 h2 h3 H locs cells slots ls hR hS hc hs hl)⟩
  · cases e
theorem BS_aload {i : Nat} (hd : decode (m_c M) pc = .ok (.aload i, 2)) (hk : B_S M (pc + 2) k sz K) : B_S M pc (op_ald i k) sz K := by
  intro L S h r e
  unfold op_ald at e
  split at e
  · rename_i x hx
    obtain ⟨e1, e2⟩ := hk _ _ _ _ e
    exact ⟨e1, fun X hC h1 h2 h3 H locs cells slots ls hR hS hc hs hl => lv_aload hC.exec hC.code hd (hl.2.2 _ _ hx) (e2 X hC h1 h2 h3 H locs cells slots ls hR hS hc hs hl)⟩
  · rename_i hx
    obtain ⟨e1, e2⟩ := hk _ _ _ _ e
    exact ⟨e1, fun X hC h1 h2 h3 H locs cells slots ls hR hS hc hs hl => lv_aloadN hC.exec hC.code hd (hl.2.2 _ _ hx) (e2 X hC h1 h2 h3 H locs cells slots ls hR hS hc hs hl)⟩
  · cases e
theorem BS_istore_n {i : Nat} {j : Fin 4} (hd : decode (m_c M) pc = .ok (.istore_n j, 1)) (hi : (j : Nat) = i) (hn : i < m_n M) (hk : B_S M (pc + 1) k sz K) : B_S M pc (op_ist i k) sz K := by
  intro L S h r e
  unfold op_ist at e
  split at e
  · obtain ⟨e1, e2⟩ := hk _ _ _ _ e
    exact ⟨e1, fun X hC h1 h2 h3 H locs cells slots ls hR hS hc hs hl => lv_istore_n hC.exec hC.code hd hi hl.has (by rw [hC.nl]; exact hn) rfl (fun ls' hl' => e2 X hC h1 h2 h3 H locs cells slots ls' hR hS hc hs (l_st1_rel hl'))⟩
  · cases e
theorem BS_istore {i : Nat} (hd : decode (m_c M) pc = .ok (.istore i, 2)) (hn : i < m_n M) (hk : B_S M (pc + 2) k sz K) : B_S M pc (op_ist i k) sz K := by
  intro L S h r e
  unfold op_ist at e
  split at e
  · obtain ⟨e1, e2⟩ := hk _ _ _ _ e
    exact ⟨e1, fun X hC h1 h2 h3 H locs cells slots ls hR hS hc hs hl => lv_istore hC.exec hC.code hd hl.has (by rw [hC.nl]; exact hn) rfl (fun ls' hl' => e2 X hC h1 h2 h3 H locs cells slots ls' hR hS hc hs (l_st1_rel hl'))⟩
  · cases e
theorem BS_lstore_n {i : Nat} {j : Fin 4} (hd : decode (m_c M) pc = .ok (.lstore_n j, 1)) (hi : (j : Nat) = i) (hn : i + 1 < m_n M) (hk : B_S M (pc + 1) k sz K) : B_S M pc (op_lst i k) sz K := by
  intro L S h r e
  unfold op_lst at e
  split at e
  · obtain ⟨e1, e2⟩ := hk _ _ _ _ e
    exact ⟨e1, fun X hC h1 h2 h3 H locs cells slots ls hR hS hc hs hl => lv_lstore_n hC.exec hC.code hd hi hl.has (by rw [hC.nl]; exact hn) rfl (fun ls' hl' => e2 X hC h1 h2 h3 H locs cells slots ls' hR hS hc hs (l_st2_rel hl'))⟩
  · cases e
theorem BS_lstore {i : Nat} (hd : decode (m_c M) pc = .ok (.lstore i, 2)) (hn : i + 1 < m_n M) (hk : B_S M (pc + 2) k sz K) : B_S M pc (op_lst i k) sz K := by
  intro L S h r e
  unfold op_lst at e
  split at e
  · obtain ⟨e1, e2⟩ := hk _ _ _ _ e
    exact ⟨e1, fun X hC h1 h2 h3 H locs cells slots ls hR hS hc hs hl => lv_lstore hC.exec hC.code hd hl.has (by rw [hC.nl]; exact hn) rfl (fun ls' hl' => e2 X hC h1 h2 h3 H locs cells slots ls' hR hS hc hs (l_st2_rel hl'))⟩
  · cases e
theorem BS_astore_n {i : Nat} {j : Fin 4} (hd : decode (m_c M) pc = .ok (.astore_n j, 1)) (hi : (j : Nat) = i) (hn : i < m_n M) (hk : B_S M (pc + 1) k sz K) : B_S M pc (op_ast i k) sz K := by
  intro L S h r e
  unfold op_ast at e
  split at e
  · obtain ⟨e1, e2⟩ := hk _ _ _ _ e
    exact ⟨e1, fun X hC h1 h2 h3 H locs cells slots ls hR hS hc hs hl => lv_astore_n hC.exec hC.code hd hi hl.has (by rw [hC.nl]; exact hn) rfl (fun ls' hl' => e2 X hC h1 h2 h3 H locs cells slots ls' hR hS hc hs (l_st1_rel hl'))⟩
  · obtain ⟨e1, e2⟩ := hk _ _ _ _ e
    exact ⟨e1, fun X hC h1 h2 h3 H locs cells slots ls hR hS hc hs hl => lv_astore_nN hC.exec hC.code hd hi hl.has (by rw [hC.nl]; exact hn) rfl (fun ls' hl' => e2 X hC h1 h2 h3 H locs cells slots ls' hR hS hc hs (l_st1_rel hl'))⟩
  · cases e
theorem BS_astore {i : Nat} (hd : decode (m_c M) pc = .ok (.astore i, 2)) (hn : i < m_n M) (hk : B_S M (pc + 2) k sz K) : B_S M pc (op_ast i k) sz K := by
  intro L S h r e
  unfold op_ast at e
  split at e
  · obtain ⟨e1, e2⟩ := hk _ _ _ _ e
    exact ⟨e1, fun X hC h1 h2 h3 H locs cells slots ls hR hS hc hs hl => lv_astore hC.exec hC.code hd hl.has (by rw [hC.nl]; exact hn) rfl (fun ls' hl' => e2 X hC h1 h2 h3 H locs cells slots ls' hR hS hc hs (l_st1_rel hl'))⟩
  · obtain ⟨e1, e2⟩ := hk _ _ _ _ e
    exact ⟨e1, fun X hC h1 h2 h3 H locs cells slots ls hR hS hc hs hl => lv_astoreN hC.exec hC.code hd hl.has (by rw [hC.nl]; exact hn) rfl (fun ls' hl' => e2 X hC h1 h2 h3 H locs cells slots ls' hR hS hc hs (l_st1_rel hl'))⟩
  · cases e
theorem BS_iinc {i : Nat} {n : Int} {v : Int32} (hd : decode (m_c M) pc = .ok (.iinc i n, 3)) (hv : Int32.ofInt n = v) (hn : i < m_n M) (hk : B_S M (pc + 3) k sz K) : B_S M pc (op_iinc i v k) sz K := by
  intro L S h r e
  unfold op_iinc at e
  split at e
  · rename_i x hx
    obtain ⟨e1, e2⟩ := hk _ _ _ _ e
    refine ⟨e1, fun X hC h1 h2 h3 H locs cells slots ls hR hS hc hs hl => ?_⟩
    obtain ⟨n9, hn9⟩ := List.getElem?_of_mem (l_list_mem.mpr hx)
    exact lv_iinc hC.exec hC.code hd hl.has (k := n9) hn9 (by rw [hv]) (by rw [hC.nl]; exact hn) rfl (fun ls' hl' => e2 X hC h1 h2 h3 H locs cells slots ls' hR hS hc hs (l_st1_rel hl'))
  · cases e
theorem BS_iadd (hd : decode (m_c M) pc = .ok (.iadd, 1)) (hk : B_S M (pc + 1) k sz K) : B_S M pc (op_i2 (fun x y => x + y) k) sz K := by
  intro L S h r e
  unfold op_i2 at e
  split at e
  · obtain ⟨e1, e2⟩ := hk _ _ _ _ e
    exact ⟨e1, fun X hC h1 h2 h3 H locs cells slots ls hR hS hc hs hl => lv_iadd hC.exec hC.code hd (e2 X hC h1 h2 h3 H locs cells slots ls hR hS hc hs hl)⟩
  · cases e
theorem BS_isub (hd : decode (m_c M) pc = .ok (.isub, 1)) (hk : B_S M (pc + 1) k sz K) : B_S M pc (op_i2 (fun x y => x - y) k) sz K := by
  intro L S h r e
  unfold op_i2 at e
  split at e
  · obtain ⟨e1, e2⟩ := hk _ _ _ _ e
    exact ⟨e1, fun X hC h1 h2 h3 H locs cells slots ls hR hS hc hs hl => lv_isub hC.exec hC.code hd (e2 X hC h1 h2 h3 H locs cells slots ls hR hS hc hs hl)⟩
  · cases e
theorem BS_imul (hd : decode (m_c M) pc = .ok (.imul, 1)) (hk : B_S M (pc + 1) k sz K) : B_S M pc (op_i2 (fun x y => x * y) k) sz K := by
  intro L S h r e
  unfold op_i2 at e
  split at e
  · obtain ⟨e1, e2⟩ := hk _ _ _ _ e
    exact ⟨e1, fun X hC h1 h2 h3 H locs cells slots ls hR hS hc hs hl => lv_imul hC.exec hC.code hd (e2 X hC h1 h2 h3 H locs cells slots ls hR hS hc hs hl)⟩
  · cases e
theorem BS_iand (hd : decode (m_c M) pc = .ok (.iand, 1)) (hk : B_S M (pc + 1) k sz K) : B_S M pc (op_i2 (fun x y => x &&& y) k) sz K := by
  intro L S h r e
  unfold op_i2 at e
  split at e
  · obtain ⟨e1, e2⟩ := hk _ _ _ _ e
    exact ⟨e1, fun X hC h1 h2 h3 H locs cells slots ls hR hS hc hs hl => lv_iand hC.exec hC.code hd (e2 X hC h1 h2 h3 H locs cells slots ls hR hS hc hs hl)⟩
  · cases e
theorem BS_ior (hd : decode (m_c M) pc = .ok (.ior, 1)) (hk : B_S M (pc + 1) k sz K) : B_S M pc (op_i2 (fun x y => x ||| y) k) sz K := by
  intro L S h r e
  unfold op_i2 at e
  split at e
  · obtain ⟨e1, e2⟩ := hk _ _ _ _ e
    exact ⟨e1, fun X hC h1 h2 h3 H locs cells slots ls hR hS hc hs hl => lv_ior hC.exec hC.code hd (e2 X hC h1 h2 h3 H locs cells slots ls hR hS hc hs hl)⟩
  · cases e
theorem BS_ixor (hd : decode (m_c M) pc = .ok (.ixor, 1)) (hk : B_S M (pc + 1) k sz K) : B_S M pc (op_i2 (fun x y => x ^^^ y) k) sz K := by
  intro L S h r e
  unfold op_i2 at e
  split at e
  · obtain ⟨e1, e2⟩ := hk _ _ _ _ e
    exact ⟨e1, fun X hC h1 h2 h3 H locs cells slots ls hR hS hc hs hl => lv_ixor hC.exec hC.code hd (e2 X hC h1 h2 h3 H locs cells slots ls hR hS hc hs hl)⟩
  · cases e
theorem BS_ishl (hd : decode (m_c M) pc = .ok (.ishl, 1)) (hk : B_S M (pc + 1) k sz K) : B_S M pc (op_i2 (fun x y => x <<< (y &&& 31)) k) sz K := by
  intro L S h r e
  unfold op_i2 at e
  split at e
  · obtain ⟨e1, e2⟩ := hk _ _ _ _ e
    exact ⟨e1, fun X hC h1 h2 h3 H locs cells slots ls hR hS hc hs hl => lv_ishl hC.exec hC.code hd (e2 X hC h1 h2 h3 H locs cells slots ls hR hS hc hs hl)⟩
  · cases e
theorem BS_ishr (hd : decode (m_c M) pc = .ok (.ishr, 1)) (hk : B_S M (pc + 1) k sz K) : B_S M pc (op_i2 (fun x y => x >>> (y &&& 31)) k) sz K := by
  intro L S h r e
  unfold op_i2 at e
  split at e
  · obtain ⟨e1, e2⟩ := hk _ _ _ _ e
    exact ⟨e1, fun X hC h1 h2 h3 H locs cells slots ls hR hS hc hs hl => lv_ishr hC.exec hC.code hd (e2 X hC h1 h2 h3 H locs cells slots ls hR hS hc hs hl)⟩
  · cases e
theorem BS_iushr (hd : decode (m_c M) pc = .ok (.iushr, 1)) (hk : B_S M (pc + 1) k sz K) : B_S M pc (op_i2 (fun x y => (x.toUInt32 >>> (y.toUInt32 &&& Int32.toUInt32 31)).toInt32) k) sz K := by
  intro L S h r e
  unfold op_i2 at e
  split at e
  · obtain ⟨e1, e2⟩ := hk _ _ _ _ e
    exact ⟨e1, fun X hC h1 h2 h3 H locs cells slots ls hR hS hc hs hl => lv_iushr hC.exec hC.code hd rfl (e2 X hC h1 h2 h3 H locs cells slots ls hR hS hc hs hl)⟩
  · cases e
theorem BS_ladd (hd : decode (m_c M) pc = .ok (.ladd, 1)) (hk : B_S M (pc + 1) k sz K) : B_S M pc (op_l2 (fun x y => x + y) k) sz K := by
  intro L S h r e
  unfold op_l2 at e
  split at e
  · obtain ⟨e1, e2⟩ := hk _ _ _ _ e
    exact ⟨e1, fun X hC h1 h2 h3 H locs cells slots ls hR hS hc hs hl => lv_ladd hC.exec hC.code hd (e2 X hC h1 h2 h3 H locs cells slots ls hR hS hc hs hl)⟩
  · cases e
theorem BS_lsub (hd : decode (m_c M) pc = .ok (.lsub, 1)) (hk : B_S M (pc + 1) k sz K) : B_S M pc (op_l2 (fun x y => x - y) k) sz K := by
  intro L S h r e
  unfold op_l2 at e
  split at e
  · obtain ⟨e1, e2⟩ := hk _ _ _ _ e
    exact ⟨e1, fun X hC h1 h2 h3 H locs cells slots ls hR hS hc hs hl => lv_lsub hC.exec hC.code hd (e2 X hC h1 h2 h3 H locs cells slots ls hR hS hc hs hl)⟩
  · cases e
theorem BS_lmul (hd : decode (m_c M) pc = .ok (.lmul, 1)) (hk : B_S M (pc + 1) k sz K) : B_S M pc (op_l2 (fun x y => x * y) k) sz K := by
  intro L S h r e
  unfold op_l2 at e
  split at e
  · obtain ⟨e1, e2⟩ := hk _ _ _ _ e
    exact ⟨e1, fun X hC h1 h2 h3 H locs cells slots ls hR hS hc hs hl => lv_lmul hC.exec hC.code hd (e2 X hC h1 h2 h3 H locs cells slots ls hR hS hc hs hl)⟩
  · cases e
theorem BS_idiv (hd : decode (m_c M) pc = .ok (.idiv, 1)) (hk : B_S M (pc + 1) k sz K) : B_S M pc (op_i2d (fun x y => x / y) k) sz K := by
  intro L S h r e
  unfold op_i2d at e
  split at e
  · split at e
    · cases e
    · rename_i hne
      obtain ⟨e1, e2⟩ := hk _ _ _ _ e
      exact ⟨e1, fun X hC h1 h2 h3 H locs cells slots ls hR hS hc hs hl => lv_idiv hC.exec hC.code hd hne (e2 X hC h1 h2 h3 H locs cells slots ls hR hS hc hs hl)⟩
  · cases e
theorem BS_irem (hd : decode (m_c M) pc = .ok (.irem, 1)) (hk : B_S M (pc + 1) k sz K) : B_S M pc (op_i2d (fun x y => x - x / y * y) k) sz K := by
  intro L S h r e
  unfold op_i2d at e
  split at e
  · split at e
    · cases e
    · rename_i hne
      obtain ⟨e1, e2⟩ := hk _ _ _ _ e
      exact ⟨e1, fun X hC h1 h2 h3 H locs cells slots ls hR hS hc hs hl => lv_irem hC.exec hC.code hd hne (e2 X hC h1 h2 h3 H locs cells slots ls hR hS hc hs hl)⟩
  · cases e
theorem BS_ldiv (hd : decode (m_c M) pc = .ok (.ldiv, 1)) (hk : B_S M (pc + 1) k sz K) : B_S M pc (op_l2d (fun x y => x / y) k) sz K := by
  intro L S h r e
  unfold op_l2d at e
  split at e
  · split at e
    · cases e
    · rename_i hne
      obtain ⟨e1, e2⟩ := hk _ _ _ _ e
      exact ⟨e1, fun X hC h1 h2 h3 H locs cells slots ls hR hS hc hs hl => lv_ldiv hC.exec hC.code hd hne (e2 X hC h1 h2 h3 H locs cells slots ls hR hS hc hs hl)⟩
  · cases e
theorem BS_lrem (hd : decode (m_c M) pc = .ok (.lrem, 1)) (hk : B_S M (pc + 1) k sz K) : B_S M pc (op_l2d (fun x y => x - x / y * y) k) sz K := by
  intro L S h r e
  unfold op_l2d at e
  split at e
  · split at e
    · cases e
    · rename_i hne
      obtain ⟨e1, e2⟩ := hk _ _ _ _ e
      exact ⟨e1, fun X hC h1 h2 h3 H locs cells slots ls hR hS hc hs hl => lv_lrem hC.exec hC.code hd hne (e2 X hC h1 h2 h3 H locs cells slots ls hR hS hc hs hl)⟩
  · cases e
theorem BS_ineg (hd : decode (m_c M) pc = .ok (.ineg, 1)) (hk : B_S M (pc + 1) k sz K) : B_S M pc (op_i1 (fun x => -x) k) sz K := by
  intro L S h r e
  unfold op_i1 at e
  split at e
  · obtain ⟨e1, e2⟩ := hk _ _ _ _ e
    exact ⟨e1, fun X hC h1 h2 h3 H locs cells slots ls hR hS hc hs hl => lv_ineg hC.exec hC.code hd (e2 X hC h1 h2 h3 H locs cells slots ls hR hS hc hs hl)⟩
  · cases e
theorem BS_i2b (hd : decode (m_c M) pc = .ok (.i2b, 1)) (hk : B_S M (pc + 1) k sz K) : B_S M pc (op_i1 (fun x => x.toInt8.toInt32) k) sz K := by
  intro L S h r e
  unfold op_i1 at e
  split at e
  · obtain ⟨e1, e2⟩ := hk _ _ _ _ e
    exact ⟨e1, fun X hC h1 h2 h3 H locs cells slots ls hR hS hc hs hl => lv_i2b hC.exec hC.code hd rfl (e2 X hC h1 h2 h3 H locs cells slots ls hR hS hc hs hl)⟩
  · cases e
theorem BS_i2c (hd : decode (m_c M) pc = .ok (.i2c, 1)) (hk : B_S M (pc + 1) k sz K) : B_S M pc (op_i1 (fun x => (x.toUInt32 % 65536).toInt32) k) sz K := by
  intro L S h r e
  unfold op_i1 at e
  split at e
  · obtain ⟨e1, e2⟩ := hk _ _ _ _ e
    exact ⟨e1, fun X hC h1 h2 h3 H locs cells slots ls hR hS hc hs hl => lv_i2c hC.exec hC.code hd rfl (e2 X hC h1 h2 h3 H locs cells slots ls hR hS hc hs hl)⟩
  · cases e
theorem BS_lneg (hd : decode (m_c M) pc = .ok (.lneg, 1)) (hk : B_S M (pc + 1) k sz K) : B_S M pc (op_l1 (fun x => -x) k) sz K := by
  intro L S h r e
  unfold op_l1 at e
  split at e
  · obtain ⟨e1, e2⟩ := hk _ _ _ _ e
    exact ⟨e1, fun X hC h1 h2 h3 H locs cells slots ls hR hS hc hs hl => lv_lneg hC.exec hC.code hd (e2 X hC h1 h2 h3 H locs cells slots ls hR hS hc hs hl)⟩
  · cases e
theorem BS_i2l (hd : decode (m_c M) pc = .ok (.i2l, 1)) (hk : B_S M (pc + 1) k sz K) : B_S M pc (op_i2l k) sz K := by
  intro L S h r e
  unfold op_i2l at e
  split at e
  · obtain ⟨e1, e2⟩ := hk _ _ _ _ e
    exact ⟨e1, fun X hC h1 h2 h3 H locs cells slots ls hR hS hc hs hl => lv_i2l hC.exec hC.code hd rfl (e2 X hC h1 h2 h3 H locs cells slots ls hR hS hc hs hl)⟩
  · cases e
theorem BS_l2i (hd : decode (m_c M) pc = .ok (.l2i, 1)) (hk : B_S M (pc + 1) k sz K) : B_S M pc (op_l2i k) sz K := by
  intro L S h r e
  unfold op_l2i at e
  split at e
  · obtain ⟨e1, e2⟩ := hk _ _ _ _ e
    exact ⟨e1, fun X hC h1 h2 h3 H locs cells slots ls hR hS hc hs hl => lv_l2i hC.exec hC.code hd rfl (e2 X hC h1 h2 h3 H locs cells slots ls hR hS hc hs hl)⟩
  · cases e
theorem BS_lshl (hd : decode (m_c M) pc = .ok (.lshl, 1)) (hk : B_S M (pc + 1) k sz K) : B_S M pc (op_li (fun x y => x <<< (y.toInt64 &&& 63)) k) sz K := by
  intro L S h r e
  unfold op_li at e
  split at e
  · obtain ⟨e1, e2⟩ := hk _ _ _ _ e
    exact ⟨e1, fun X hC h1 h2 h3 H locs cells slots ls hR hS hc hs hl => lv_lshl hC.exec hC.code hd rfl (e2 X hC h1 h2 h3 H locs cells slots ls hR hS hc hs hl)⟩
  · cases e
theorem BS_lcmp (hd : decode (m_c M) pc = .ok (.lcmp, 1)) (hk : B_S M (pc + 1) k sz K) : B_S M pc (op_lcmp k) sz K := by
  intro L S h r e
  unfold op_lcmp at e
  split at e
  · obtain ⟨e1, e2⟩ := hk _ _ _ _ e
    exact ⟨e1, fun X hC h1 h2 h3 H locs cells slots ls hR hS hc hs hl => W.lcmp hC.exec hC.code hd (e2 X hC h1 h2 h3 H locs cells slots ls hR hS hc hs hl)⟩
  · cases e
theorem BS_dup (hd : decode (m_c M) pc = .ok (.dup, 1)) (hk : B_S M (pc + 1) k sz K) : B_S M pc (op_dup k) sz K := by
  intro L S h r e
  unfold op_dup at e
  split at e
  · split at e
    · rename_i hc9
      obtain ⟨e1, e2⟩ := hk _ _ _ _ e
      exact ⟨e1, fun X hC h1 h2 h3 H locs cells slots ls hR hS hc hs hl => lv_dup hC.exec hC.code hd hc9 (e2 X hC h1 h2 h3 H locs cells slots ls hR hS hc hs hl)⟩
    · cases e
  · cases e
theorem BS_pop (hd : decode (m_c M) pc = .ok (.pop, 1)) (hk : B_S M (pc + 1) k sz K) : B_S M pc (op_pop k) sz K := by
  intro L S h r e
  unfold op_pop at e
  split at e
  · split at e
    · rename_i hc9
      obtain ⟨e1, e2⟩ := hk _ _ _ _ e
      exact ⟨e1, fun X hC h1 h2 h3 H locs cells slots ls hR hS hc hs hl => lv_pop hC.exec hC.code hd hc9 (e2 X hC h1 h2 h3 H locs cells slots ls hR hS hc hs hl)⟩
    · cases e
  · cases e
theorem BS_dup2 (hd : decode (m_c M) pc = .ok (.dup2, 1)) (hk : B_S M (pc + 1) k sz K) : B_S M pc (op_dup2 k) sz K := by
  intro L S h r e
  unfold op_dup2 at e
  split at e
  · split at e
    · rename_i hc9
      obtain ⟨e1, e2⟩ := hk _ _ _ _ e
      exact ⟨e1, fun X hC h1 h2 h3 H locs cells slots ls hR hS hc hs hl => lv_dup2_11 hC.exec hC.code hd hc9.1 hc9.2 (e2 X hC h1 h2 h3 H locs cells slots ls hR hS hc hs hl)⟩
    · cases e
  · cases e
theorem BS_if_eq {off : Int} {tgt : Nat} (hd : decode (m_c M) pc = .ok (.ifCond .eq off, 3)) (ht : (pc : Int) + off = (tgt : Int)) (hk1 : B_S M tgt k1 sz K) (hk2 : B_S M (pc + 3) k2 sz K) : B_S M pc (op_ieq k1 k2) sz K := by
  intro L S h r e
  unfold op_ieq at e
  split at e
  · split at e
    · rename_i hc9
      obtain ⟨e1, e2⟩ := hk1 _ _ _ _ e
      exact ⟨e1, fun X hC h1 h2 h3 H locs cells slots ls hR hS hc hs hl => lv_if_eq hC.exec hC.code hd ht (fun q => (e2 X hC h1 h2 h3 H locs cells slots ls hR hS hc hs hl)) (fun q => absurd hc9 q)⟩
    · rename_i hc9
      obtain ⟨e1, e2⟩ := hk2 _ _ _ _ e
      exact ⟨e1, fun X hC h1 h2 h3 H locs cells slots ls hR hS hc hs hl => lv_if_eq hC.exec hC.code hd ht (fun q => absurd q hc9) (fun q => (e2 X hC h1 h2 h3 H locs cells slots ls hR hS hc hs hl))⟩
  · cases e
theorem BS_icmp_eq {off : Int} {tgt : Nat} (hd : decode (m_c M) pc = .ok (.if_icmp .eq off, 3)) (ht : (pc : Int) + off = (tgt : Int)) (hk1 : B_S M tgt k1 sz K) (hk2 : B_S M (pc + 3) k2 sz K) : B_S M pc (op_ceq k1 k2) sz K := by
  intro L S h r e
  unfold op_ceq at e
  split at e
  · split at e
    · rename_i hc9
      obtain ⟨e1, e2⟩ := hk1 _ _ _ _ e
      exact ⟨e1, fun X hC h1 h2 h3 H locs cells slots ls hR hS hc hs hl => lv_icmp_eq hC.exec hC.code hd ht (fun q => (e2 X hC h1 h2 h3 H locs cells slots ls hR hS hc hs hl)) (fun q => absurd hc9 q)⟩
    · rename_i hc9
      obtain ⟨e1, e2⟩ := hk2 _ _ _ _ e
      exact ⟨e1, fun X hC h1 h2 h3 H locs cells slots ls hR hS hc hs hl => lv_icmp_eq hC.exec hC.code hd ht (fun q => absurd q hc9) (fun q => (e2 X hC h1 h2 h3 H locs cells slots ls hR hS hc hs hl))⟩
  · cases e
theorem BS_if_ne {off : Int} {tgt : Nat} (hd : decode (m_c M) pc = .ok (.ifCond .ne off, 3)) (ht : (pc : Int) + off = (tgt : Int)) (hk1 : B_S M tgt k1 sz K) (hk2 : B_S M (pc + 3) k2 sz K) : B_S M pc (op_ine k1 k2) sz K := by
  intro L S h r e
  unfold op_ine at e
  split at e
  · split at e
    · rename_i hc9
      obtain ⟨e1, e2⟩ := hk2 _ _ _ _ e
      exact ⟨e1, fun X hC h1 h2 h3 H locs cells slots ls hR hS hc hs hl => lv_if_ne hC.exec hC.code hd ht (fun q => absurd hc9 q) (fun q => (e2 X hC h1 h2 h3 H locs cells slots ls hR hS hc hs hl))⟩
    · rename_i hc9
      obtain ⟨e1, e2⟩ := hk1 _ _ _ _ e
      exact ⟨e1, fun X hC h1 h2 h3 H locs cells slots ls hR hS hc hs hl => lv_if_ne hC.exec hC.code hd ht (fun q => (e2 X hC h1 h2 h3 H locs cells slots ls hR hS hc hs hl)) (fun q => absurd q hc9)⟩
  · cases e
theorem BS_icmp_ne {off : Int} {tgt : Nat} (hd : decode (m_c M) pc = .ok (.if_icmp .ne off, 3)) (ht : (pc : Int) + off = (tgt : Int)) (hk1 : B_S M tgt k1 sz K) (hk2 : B_S M (pc + 3) k2 sz K) : B_S M pc (op_cne k1 k2) sz K := by
  intro L S h r e
  unfold op_cne at e
  split at e
  · split at e
    · rename_i hc9
      obtain ⟨e1, e2⟩ := hk2 _ _ _ _ e
      exact ⟨e1, fun X hC h1 h2 h3 H locs cells slots ls hR hS hc hs hl => lv_icmp_ne hC.exec hC.code hd ht (fun q => absurd hc9 q) (fun q => (e2 X hC h1 h2 h3 H locs cells slots ls hR hS hc hs hl))⟩
    · rename_i hc9
      obtain ⟨e1, e2⟩ := hk1 _ _ _ _ e
      exact ⟨e1, fun X hC h1 h2 h3 H locs cells slots ls hR hS hc hs hl => lv_icmp_ne hC.exec hC.code hd ht (fun q => (e2 X hC h1 h2 h3 H locs cells slots ls hR hS hc hs hl)) (fun q => absurd q hc9)⟩
  · cases e
theorem BS_if_lt {off : Int} {tgt : Nat} (hd : decode (m_c M) pc = .ok (.ifCond .lt off, 3)) (ht : (pc : Int) + off = (tgt : Int)) (hk1 : B_S M tgt k1 sz K) (hk2 : B_S M (pc + 3) k2 sz K) : B_S M pc (op_ilt k1 k2) sz K := by
  intro L S h r e
  unfold op_ilt at e
  split at e
  · split at e
    · rename_i hc9
      obtain ⟨e1, e2⟩ := hk1 _ _ _ _ e
      exact ⟨e1, fun X hC h1 h2 h3 H locs cells slots ls hR hS hc hs hl => lv_if_lt hC.exec hC.code hd ht (fun q => (e2 X hC h1 h2 h3 H locs cells slots ls hR hS hc hs hl)) (fun q => absurd hc9 q)⟩
    · rename_i hc9
      obtain ⟨e1, e2⟩ := hk2 _ _ _ _ e
      exact ⟨e1, fun X hC h1 h2 h3 H locs cells slots ls hR hS hc hs hl => lv_if_lt hC.exec hC.code hd ht (fun q => absurd q hc9) (fun q => (e2 X hC h1 h2 h3 H locs cells slots ls hR hS hc hs hl))⟩
  · cases e
theorem BS_icmp_lt {off : Int} {tgt : Nat} (hd : decode (m_c M) pc = .ok (.if_icmp .lt off, 3)) (ht : (pc : Int) + off = (tgt : Int)) (hk1 : B_S M tgt k1 sz K) (hk2 : B_S M (pc + 3) k2 sz K) : B_S M pc (op_clt k1 k2) sz K := by
  intro L S h r e
  unfold op_clt at e
  split at e
  · split at e
    · rename_i hc9
      obtain ⟨e1, e2⟩ := hk1 _ _ _ _ e
      exact ⟨e1, fun X hC h1 h2 h3 H locs cells slots ls hR hS hc hs hl => lv_icmp_lt hC.exec hC.code hd ht (fun q => (e2 X hC h1 h2 h3 H locs cells slots ls hR hS hc hs hl)) (fun q => absurd hc9 q)⟩
    · rename_i hc9
      obtain ⟨e1, e2⟩ := hk2 _ _ _ _ e
      exact ⟨e1, fun X hC h1 h2 h3 H locs cells slots ls hR hS hc hs hl => lv_icmp_lt hC.exec hC.code hd ht (fun q => absurd q hc9) (fun q => (e2 X hC h1 h2 h3 H locs cells slots ls hR hS hc hs hl))⟩
  · cases e
theorem BS_if_ge {off : Int} {tgt : Nat} (hd : decode (m_c M) pc = .ok (.ifCond .ge off, 3)) (ht : (pc : Int) + off = (tgt : Int)) (hk1 : B_S M tgt k1 sz K) (hk2 : B_S M (pc + 3) k2 sz K) : B_S M pc (op_ige k1 k2) sz K := by
  intro L S h r e
  unfold op_ige at e
  split at e
  · split at e
    · rename_i hc9
      obtain ⟨e1, e2⟩ := hk1 _ _ _ _ e
      exact ⟨e1, fun X hC h1 h2 h3 H locs cells slots ls hR hS hc hs hl => lv_if_ge hC.exec hC.code hd ht (fun q => (e2 X hC h1 h2 h3 H locs cells slots ls hR hS hc hs hl)) (fun q => absurd hc9 q)⟩
    · rename_i hc9
      obtain ⟨e1, e2⟩ := hk2 _ _ _ _ e
      exact ⟨e1, fun X hC h1 h2 h3 H locs cells slots ls hR hS hc hs hl => lv_if_ge hC.exec hC.code hd ht (fun q => absurd q hc9) (fun q => (e2 X hC h1 h2 h3 H locs cells slots ls hR hS hc hs hl))⟩
  · cases e
theorem BS_icmp_ge {off : Int} {tgt : Nat} (hd : decode (m_c M) pc = .ok (.if_icmp .ge off, 3)) (ht : (pc : Int) + off = (tgt : Int)) (hk1 : B_S M tgt k1 sz K) (hk2 : B_S M (pc + 3) k2 sz K) : B_S M pc (op_cge k1 k2) sz K := by
  intro L S h r e
  unfold op_cge at e
  split at e
  · split at e
    · rename_i hc9
      obtain ⟨e1, e2⟩ := hk1 _ _ _ _ e
      exact ⟨e1, fun X hC h1 h2 h3 H locs cells slots ls hR hS hc hs hl => lv_icmp_ge hC.exec hC.code hd ht (fun q => (e2 X hC h1 h2 h3 H locs cells slots ls hR hS hc hs hl)) (fun q => absurd hc9 q)⟩
    · rename_i hc9
      obtain ⟨e1, e2⟩ := hk2 _ _ _ _ e
      exact ⟨e1, fun X hC h1 h2 h3 H locs cells slots ls hR hS hc hs hl => lv_icmp_ge hC.exec hC.code hd ht (fun q => absurd q hc9) (fun q => (e2 X hC h1 h2 h3 H locs cells slots ls hR hS hc hs hl))⟩
  · cases e
theorem BS_if_gt {off : Int} {tgt : Nat} (hd : decode (m_c M) pc = .ok (.ifCond .gt off, 3)) (ht : (pc : Int) + off = (tgt : Int)) (hk1 : B_S M tgt k1 sz K) (hk2 : B_S M (pc + 3) k2 sz K) : B_S M pc (op_igt k1 k2) sz K := by
  intro L S h r e
  unfold op_igt at e
  split at e
  · split at e
    · rename_i hc9
      obtain ⟨e1, e2⟩ := hk1 _ _ _ _ e
      exact ⟨e1, fun X hC h1 h2 h3 H locs cells slots ls hR hS hc hs hl => lv_if_gt hC.exec hC.code hd ht (fun q => (e2 X hC h1 h2 h3 H locs cells slots ls hR hS hc hs hl)) (fun q => absurd hc9 q)⟩
    · rename_i hc9
      obtain ⟨e1, e2⟩ := hk2 _ _ _ _ e
      exact ⟨e1, fun X hC h1 h2 h3 H locs cells slots ls hR hS hc hs hl => lv_if_gt hC.exec hC.code hd ht (fun q => absurd q hc9) (fun q => (e2 X hC h1 h2 h3 H locs cells slots ls hR hS hc hs hl))⟩
  · cases e
theorem BS_icmp_gt {off : Int} {tgt : Nat} (hd : decode (m_c M) pc = .ok (.if_icmp .gt off, 3)) (ht : (pc : Int) + off = (tgt : Int)) (hk1 : B_S M tgt k1 sz K) (hk2 : B_S M (pc + 3) k2 sz K) : B_S M pc (op_cgt k1 k2) sz K := by
  intro L S h r e
  unfold op_cgt at e
  split at e
  · split at e
    · rename_i hc9
      obtain ⟨e1, e2⟩ := hk1 _ _ _ _ e
      exact ⟨e1, fun X hC h1 h2 h3 H locs cells slots ls hR hS hc hs hl => lv_icmp_gt hC.exec hC.code hd ht (fun q => (e2 X hC h1 h2 h3 H locs cells slots ls hR hS hc hs hl)) (fun q => absurd hc9 q)⟩
    · rename_i hc9
      obtain ⟨e1, e2⟩ := hk2 _ _ _ _ e
      exact ⟨e1, fun X hC h1 h2 h3 H locs cells slots ls hR hS hc hs hl => lv_icmp_gt hC.exec hC.code hd ht (fun q => absurd q hc9) (fun q => (e2 X hC h1 h2 h3 H locs cells slots ls hR hS hc hs hl))⟩
  · cases e
theorem BS_if_le {off : Int} {tgt : Nat} (hd : decode (m_c M) pc = .ok (.ifCond .le off, 3)) (ht : (pc : Int) + off = (tgt : Int)) (hk1 : B_S M tgt k1 sz K) (hk2 : B_S M (pc + 3) k2 sz K) : B_S M pc (op_ile k1 k2) sz K := by
  intro L S h r e
  unfold op_ile at e
  split at e
  · split at e
    · rename_i hc9
      obtain ⟨e1, e2⟩ := hk1 _ _ _ _ e
      exact ⟨e1, fun X hC h1 h2 h3 H locs cells slots ls hR hS hc hs hl => lv_if_le hC.exec hC.code hd ht (fun q => (e2 X hC h1 h2 h3 H locs cells slots ls hR hS hc hs hl)) (fun q => absurd hc9 q)⟩
    · rename_i hc9
      obtain ⟨e1, e2⟩ := hk2 _ _ _ _ e
      exact ⟨e1, fun X hC h1 h2 h3 H locs cells slots ls hR hS hc hs hl => lv_if_le hC.exec hC.code hd ht (fun q => absurd q hc9) (fun q => (e2 X hC h1 h2 h3 H locs cells slots ls hR hS hc hs hl))⟩
  · cases e
theorem BS_icmp_le {off : Int} {tgt : Nat} (hd : decode (m_c M) pc = .ok (.if_icmp .le off, 3)) (ht : (pc : Int) + off = (tgt : Int)) (hk1 : B_S M tgt k1 sz K) (hk2 : B_S M (pc + 3) k2 sz K) : B_S M pc (op_cle k1 k2) sz K := by
  intro L S h r e
  unfold op_cle at e
  split at e
  · split at e
    · rename_i hc9
      obtain ⟨e1, e2⟩ := hk1 _ _ _ _ e
      exact ⟨e1, fun X hC h1 h2 h3 H locs cells slots ls hR hS hc hs hl => lv_icmp_le hC.exec hC.code hd ht (fun q => (e2 X hC h1 h2 h3 H locs cells slots ls hR hS hc hs hl)) (fun q => absurd hc9 q)⟩
    · rename_i hc9
      obtain ⟨e1, e2⟩ := hk2 _ _ _ _ e
      exact ⟨e1, fun X hC h1 h2 h3 H locs cells slots ls hR hS hc hs hl => lv_icmp_le hC.exec hC.code hd ht (fun q => absurd q hc9) (fun q => (e2 X hC h1 h2 h3 H locs cells slots ls hR hS hc hs hl))⟩
  · cases e
theorem BS_ifnull {off : Int} {tgt : Nat} (hd : decode (m_c M) pc = .ok (.ifnull off, 3)) (ht : (pc : Int) + off = (tgt : Int)) (hk1 : B_S M tgt k1 sz K) (hk2 : B_S M (pc + 3) k2 sz K) : B_S M pc (op_ifn k1 k2) sz K := by
  intro L S h r e
  unfold op_ifn at e
  split at e
  · obtain ⟨e1, e2⟩ := hk1 _ _ _ _ e
    exact ⟨e1, fun X hC h1 h2 h3 H locs cells slots ls hR hS hc hs hl => lv_ifnullN hC.exec hC.code hd ht (e2 X hC h1 h2 h3 H locs cells slots ls hR hS hc hs hl)⟩
  · obtain ⟨e1, e2⟩ := hk2 _ _ _ _ e
    exact ⟨e1, fun X hC h1 h2 h3 H locs cells slots ls hR hS hc hs hl => lv_ifnull hC.exec hC.code hd (e2 X hC h1 h2 h3 H locs cells slots ls hR hS hc hs hl)⟩
  · cases e
theorem BS_ifnonnull {off : Int} {tgt : Nat} (hd : decode (m_c M) pc = .ok (.ifnonnull off, 3)) (ht : (pc : Int) + off = (tgt : Int)) (hk1 : B_S M tgt k1 sz K) (hk2 : B_S M (pc + 3) k2 sz K) : B_S M pc (op_ifnn k1 k2) sz K := by
  intro L S h r e
  unfold op_ifnn at e
  split at e
  · obtain ⟨e1, e2⟩ := hk2 _ _ _ _ e
    exact ⟨e1, fun X hC h1 h2 h3 H locs cells slots ls hR hS hc hs hl => lv_ifnonnullN hC.exec hC.code hd (e2 X hC h1 h2 h3 H locs cells slots ls hR hS hc hs hl)⟩
  · obtain ⟨e1, e2⟩ := hk1 _ _ _ _ e
    exact ⟨e1, fun X hC h1 h2 h3 H locs cells slots ls hR hS hc hs hl => lv_ifnonnull hC.exec hC.code hd ht (e2 X hC h1 h2 h3 H locs cells slots ls hR hS hc hs hl)⟩
  · cases e
theorem v_rf_eq {v : Value} {p : Option Nat} (h : v_rf? v = some p) : v = va_rf p := by
  cases v <;> simp [v_rf?] at h <;> subst h <;> rfl
theorem BS_acmp_eq {off : Int} {tgt : Nat} (hd : decode (m_c M) pc = .ok (.if_acmp .eq off, 3)) (ht : (pc : Int) + off = (tgt : Int)) (hk1 : B_S M tgt k1 sz K) (hk2 : B_S M (pc + 3) k2 sz K) : B_S M pc (op_aeq k1 k2) sz K := by
  intro L S h r e
  unfold op_aeq at e
  split at e
  · split at e
    · rename_i p q hp hq
      cases v_rf_eq hp
      cases v_rf_eq hq
      split at e
      · rename_i hc9
        obtain ⟨e1, e2⟩ := hk1 _ _ _ _ e
        exact ⟨e1, fun X hC h1 h2 h3 H locs cells slots ls hR hS hc hs hl => lv_acmp_eq hC.exec hC.code hd ht (fun q => (e2 X hC h1 h2 h3 H locs cells slots ls hR hS hc hs hl)) (fun q => absurd hc9 q)⟩
      · rename_i hc9
        obtain ⟨e1, e2⟩ := hk2 _ _ _ _ e
        exact ⟨e1, fun X hC h1 h2 h3 H locs cells slots ls hR hS hc hs hl => lv_acmp_eq hC.exec hC.code hd ht (fun q => absurd q hc9) (fun q => (e2 X hC h1 h2 h3 H locs cells slots ls hR hS hc hs hl))⟩
    · cases e
  · cases e
theorem BS_acmp_ne {off : Int} {tgt : Nat} (hd : decode (m_c M) pc = .ok (.if_acmp .ne off, 3)) (ht : (pc : Int) + off = (tgt : Int)) (hk1 : B_S M tgt k1 sz K) (hk2 : B_S M (pc + 3) k2 sz K) : B_S M pc (op_ane k1 k2) sz K := by
  intro L S h r e
  unfold op_ane op_aeq at e
  split at e
  · split at e
    · rename_i p q hp hq
      cases v_rf_eq hp
      cases v_rf_eq hq
      split at e
      · rename_i hc9
        obtain ⟨e1, e2⟩ := hk2 _ _ _ _ e
        exact ⟨e1, fun X hC h1 h2 h3 H locs cells slots ls hR hS hc hs hl => lv_acmp_ne hC.exec hC.code hd ht (fun q => absurd hc9 q) (fun q => (e2 X hC h1 h2 h3 H locs cells slots ls hR hS hc hs hl))⟩
      · rename_i hc9
        obtain ⟨e1, e2⟩ := hk1 _ _ _ _ e
        exact ⟨e1, fun X hC h1 h2 h3 H locs cells slots ls hR hS hc hs hl => lv_acmp_ne hC.exec hC.code hd ht (fun q => (e2 X hC h1 h2 h3 H locs cells slots ls hR hS hc hs hl)) (fun q => absurd q hc9)⟩
    · cases e
  · cases e
theorem BS_goto {off : Int} {tgt : Nat} (hd : decode (m_c M) pc = .ok (.goto off, 3)) (ht : (pc : Int) + off = (tgt : Int)) (hk : B_S M tgt k sz K) : B_S M pc k sz K := by
  intro L S h r e
  obtain ⟨e1, e2⟩ := hk _ _ _ _ e
  exact ⟨e1, fun X hC h1 h2 h3 H locs cells slots ls hR hS hc hs hl => lv_goto hC.exec hC.code hd ht (e2 X hC h1 h2 h3 H locs cells slots ls hR hS hc hs hl)⟩
theorem BS_stuck : B_S M pc (op_stuck : KK R) sz K := by
  intro L S h r e
  cases e
theorem BV_no : B_V M pc (kx_no : KX R) sz K := by
  intro L S h r e
  cases e
/-- the code behind a loop -/
theorem BS_exit {pc2 : Nat} (hk : B_S M pc k sz K) : B_S M pc (op_exit k) (z_L sz) (k_L pc2 K) := by
  intro L S h r e
  unfold op_exit at e
  cases hq : k L S h with
  | none => rw [hq] at e; cases e
  | some x =>
    rw [hq] at e
    cases e
    exact hk _ _ _ _ hq
theorem BV_exit {pc2 : Nat} {kx : KX R} (hk : B_V M pc kx sz K) : B_V M pc (kx_exit kx) (z_L sz) (k_L pc2 K) := by
  intro L S h r e
  unfold kx_exit at e
  cases hq : kx L S h with
  | none => rw [hq] at e; cases e
  | some x =>
    rw [hq] at e
    cases e
    exact hk _ _ _ _ hq
theorem BS_back : B_S M pc (op_back : KK (L_S ⊕ R)) (z_L sz) (k_L pc K) := by
  intro L S h r e
  cases e
  exact ⟨⟨Nat.le_refl _, Nat.le_refl _⟩, fun X hC h1 h2 h3 => h3⟩
theorem BS_loop {B : KK (L_S ⊕ R)} (hB : B_S M pc B (z_L sz) (k_L pc K)) : B_S M pc (op_loop B) sz K := by
  intro L S h r e
  unfold op_loop at e
  obtain ⟨n, hn⟩ := lp_w_iff.mp e
  have key : ∀ (n : Nat) (s : L_S), lp_n (fun s : L_S => B s.1 s.2.1 s.2.2) n s = some r → (a_sz s.2.2 ≤ (sz r).1 ∧ a_sl s.2.2 ≤ (sz r).2) ∧ ∀ X, C_X M X → (sz r).1 ≤ a_sz (x_o X).2 → (sz r).2 ≤ a_sl (x_o X).2 → K X r → W_at X pc s.1 s.2.1 s.2.2 := by
    intro n
    induction n with
    | zero => intro s q; cases q
    | succ n ih =>
      intro s q
      unfold lp_n at q
      cases hb : B s.1 s.2.1 s.2.2 with
      | none => rw [hb] at q; cases q
      | some x =>
        rw [hb] at q
        obtain ⟨g1, g2⟩ := hB _ _ _ _ hb
        cases x with
        | inl s' =>
          obtain ⟨i1, i2⟩ := ih s' q
          refine ⟨⟨Nat.le_trans g1.1 i1.1, Nat.le_trans g1.2 i1.2⟩, fun X hC h1 h2 h3 => g2 X hC (Nat.le_trans i1.1 h1) (Nat.le_trans i1.2 h2) (i2 X hC h1 h2 h3)⟩
        | inr r' =>
          cases q
          exact ⟨g1, fun X hC h1 h2 h3 => g2 X hC h1 h2 h3⟩
  exact key n (L, S, h) hn
end ROWS
