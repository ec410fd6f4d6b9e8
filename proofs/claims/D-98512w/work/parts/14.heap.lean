/-! Rows of the heap: fields, arrays, new cells, constants, casts, ends -/
theorem p_ok_nar {ty : FieldType} {x : Int32} (h : p_ok ty x = true) : narrow ty (.int x) = .int x := by
  cases ty with
  | int => rfl
  | boolean =>
    simp only [p_ok, Bool.or_eq_true, beq_iff_eq] at h
    rcases h with rfl | rfl <;> decide
  | byte =>
    simp only [p_ok, beq_iff_eq] at h
    rw [← h]
    exact pk_nb x
  | char =>
    simp only [p_ok, beq_iff_eq] at h
    rw [← h]
    exact pk_nc x
  | _ => cases h
theorem p_ok_fit {ty : FieldType} {x : Int32} (h : p_ok ty x = true) : fits ty (.int x) = true := by
  cases ty with
  | int => rfl
  | boolean =>
    simp only [p_ok, Bool.or_eq_true, beq_iff_eq] at h
    rcases h with rfl | rfl <;> decide
  | byte =>
    simp only [p_ok, beq_iff_eq] at h
    rw [← h]
    exact pk_fb x
  | char =>
    simp only [p_ok, beq_iff_eq] at h
    rw [← h]
    exact pk_fc x
  | _ => cases h
theorem R_p.obj {G : GG} {h : AH} {H : Heap} {a ci : Nat} (hR : R_p G h H) (hk : (a_kd h a).1 = ci + 10) {q : vw_C} (hc : CLS[ci]? = some q) : ∃ cell : Cell, H[a]? = some cell ∧ cell.cls = G.1.1 ci ∧ (g_lo G ≤ a → cell.vm = .none) ∧ cell.vm.isStatics = false ∧ cell.vm ≠ .unknown ∧ ∀ k, k < q.2.2 → cell.slots[G.1.2 ci k]? = some (o_val h ci a k) := by
  have h18 : ci ≤ 18 := by
    have := (List.getElem?_eq_some_iff.mp hc).1
    have h9 : CLS.length = 19 := rfl
    omega
  obtain ⟨r, h1, h2⟩ := (hR.2.2 a).2.2.2.1 ci hk h18
  cases h1.symm.trans hc
  exact h2
theorem u_found2 {args : Array Value} {s : State} {ref owner name desc : String} {x : ClassId × Class × Nat × Field} (hs : owner = ref ∨ (Cond.sameField ref owner name desc).before args s = true) (hi : s.fieldFound? owner name desc = some x) : s.fieldFound? ref name desc = some x := by
  rcases hs with h | h
  · rw [← h]; exact hi
  · exact u_same h x hi
section HP
variable {M : MM} {X : XX} {pc : Nat} {H : Heap} {locs : List Loc} {cells slots : Nat} {ls : Array Slot} {rest : List Value} {h : AH}
theorem g_field {idx key tc t a : Nat} (hC : C_X M X) (hF : F_ok (m_y M).cls idx key tc t) (hkd : (a_kd h a).1 = t) (hd : decode (m_c M) pc = .ok (.getfield idx, 3)) (hR : R_p (x_G X) h H) {v : Value} (hv : ∀ ci k, (KEYS ci)[k]? = some (key, tc) → o_val h ci a k = v)
    (kk : W_X X H locs cells slots (F0 (x_m X) (pc + 3) ls (v :: rest))) : W_X X H locs cells slots (F0 (x_m X) pc ls (.ref a :: rest)) := by
  obtain ⟨ci, q, k, ref, rfl, hc, hk, hkey, hlink, hsame⟩ := hF
  obtain ⟨hin, hty, hnm, -⟩ := cls_ok ci q hc
  obtain ⟨cell, q1, q2, q3, q30, q31, q4⟩ := hR.obj hkd hc
  obtain ⟨hS, hfc, kC, hkC, hkind⟩ := hC.kf.1.1 ci _ hc
  obtain ⟨cf, kf, fi, f, hi, hsl⟩ := hS k hk
  have hst := (u_facts hfc hkC (u_lays hC.hts hin hk) hi).1
  have hsm := u_found2 (hsame.imp id (hC.hts _)) hi
  have hval : cell.slots[f.slot]? = some v := by rw [hsl, q4 k hk, hv ci k hkey]
  rcases hlink with hl | ⟨host, hl⟩
  · exact W.getf hC.exec hC.code hC.own (hC.hts _ hl) hsm hst q1 q31 hval rfl rfl hd kk
  · exact va_Wgetf hC.exec hC.code hC.own (nw_use rfl (hC.kf.2.1 _ hl rfl)) hsm hst q1 q31 hval rfl rfl hd kk
/-- one field is changed -/
def U_p (h h1 : AH) (a key tc : Nat) (v : Value) : Prop :=
  a_cs h1 = a_cs h ∧ a_sz h1 = a_sz h ∧ a_kd h1 = a_kd h ∧ a_ai h1 = a_ai h ∧ a_al h1 = a_al h ∧ a_ar h1 = a_ar h ∧
  (∀ b, b ≠ a → (∀ k, a_fi h1 k b = a_fi h k b) ∧ (∀ k, a_fl h1 k b = a_fl h k b) ∧ ∀ k, a_fr h1 k b = a_fr h k b) ∧
  (∀ ci k, (KEYS ci)[k]? = some (key, tc) → o_val h1 ci a k = v) ∧ (∀ ci k key', (∃ tc', (KEYS ci)[k]? = some (key', tc')) → key' ≠ key → o_val h1 ci a k = o_val h ci a k)
theorem U_p.fi {a key : Nat} {x : Int32} : U_p h (s_fi h key a x) a key 0 (.int x) := by
  refine ⟨rfl, rfl, rfl, rfl, rfl, rfl, fun b hb => ⟨fun k => ?_, fun _ => rfl, fun _ => rfl⟩, fun ci k hk => ?_, fun ci k key' hk hne => ?_⟩
  · show u_2 _ _ _ _ k b = _
    simp [u_2, hb]
  · simp only [o_val, hk]
    show Value.int (u_2 _ _ _ _ key a) = _
    simp [u_2]
  · obtain ⟨tc', hk⟩ := hk
    simp only [o_val, hk]
    match tc' with
    | 0 =>
      show Value.int (u_2 _ _ _ _ key' a) = _
      simp [u_2, hne]
    | 1 => rfl
    | n + 2 => rfl
theorem U_p.fl {a key : Nat} {x : Int64} : U_p h (s_fl h key a x) a key 1 (.long x) := by
  refine ⟨rfl, rfl, rfl, rfl, rfl, rfl, fun b hb => ⟨fun _ => rfl, fun k => ?_, fun _ => rfl⟩, fun ci k hk => ?_, fun ci k key' hk hne => ?_⟩
  · show u_2 _ _ _ _ k b = _
    simp [u_2, hb]
  · simp only [o_val, hk]
    show Value.long (u_2 _ _ _ _ key a) = _
    simp [u_2]
  · obtain ⟨tc', hk⟩ := hk
    simp only [o_val, hk]
    match tc' with
    | 0 => rfl
    | 1 =>
      show Value.long (u_2 _ _ _ _ key' a) = _
      simp [u_2, hne]
    | n + 2 => rfl
theorem U_p.fr {a key : Nat} {x : Option Nat} : U_p h (s_fr h key a x) a key 2 (va_rf x) := by
  refine ⟨rfl, rfl, rfl, rfl, rfl, rfl, fun b hb => ⟨fun _ => rfl, fun _ => rfl, fun k => ?_⟩, fun ci k hk => ?_, fun ci k key' hk hne => ?_⟩
  · show u_2 _ _ _ _ k b = _
    simp [u_2, hb]
  · simp only [o_val, hk]
    show va_rf (u_2 _ _ _ _ key a) = _
    simp [u_2]
  · obtain ⟨tc', hk⟩ := hk
    simp only [o_val, hk]
    match tc' with
    | 0 => rfl
    | 1 => rfl
    | n + 2 =>
      show va_rf (u_2 _ _ _ _ key' a) = _
      simp [u_2, hne]
theorem keys_inj {ci : Nat} {q : vw_C} (hc : CLS[ci]? = some q) {i j key t1 t2 : Nat} (hi : (KEYS ci)[i]? = some (key, t1)) (hj : (KEYS ci)[j]? = some (key, t2)) : i = j := by
  obtain ⟨-, -, -, -, hnd, -⟩ := cls_ok ci q hc
  have h1 : ((KEYS ci).map (·.1))[i]? = some key := by rw [List.getElem?_map, hi]; rfl
  have h2 : ((KEYS ci).map (·.1))[j]? = some key := by rw [List.getElem?_map, hj]; rfl
  have hl : i < ((KEYS ci).map (·.1)).length := (List.getElem?_eq_some_iff.mp h1).1
  exact (List.getElem?_inj hl hnd).mp (h1.trans h2.symm)
theorem g_put {idx key tc t a : Nat} {ty : FieldType} {fin : Bool} (hC : C_X M X) (hF : P_ok (m_y M).cls idx key tc ty fin t) (hin2 : fin = true → (m_y M).name = "<init>") (hkd : (a_kd h a).1 = t) (hlo : a_lo h ≤ a) (hd : decode (m_c M) pc = .ok (.putfield idx, 3)) (hR : R_p (x_G X) h H) (hS0 : va_S (g_A (x_G X)) (x_s X).heap H locs)
    {v : Value} (hn : narrow ty v = v) (hfit : fits ty v = true) {h1 : AH} (hU : U_p h h1 a key tc v)
    (kk : ∀ (H1 : Heap) (locs1 : List Loc), R_p (x_G X) h1 H1 → va_S (g_A (x_G X)) (x_s X).heap H1 locs1 → W_X X H1 locs1 cells slots (F0 (x_m X) (pc + 3) ls rest)) : W_X X H locs cells slots (F0 (x_m X) pc ls (v :: .ref a :: rest)) := by
  obtain ⟨ci, q, k, ref, rfl, hc, hk, hkey, hlink, hsame, hty0, hfin, hdecl⟩ := hF
  obtain ⟨hin, hty, hnm, hlen, -⟩ := cls_ok ci q hc
  have hpd : parseFieldDescriptor (q.2.1 k).2.2.1 = some ty := by rw [hty k hk, hty0]
  have hap := va_apart (own := (m_y M).cls) hC.hts hin (TYK ci) hty hnm hC.kf.1 (show CLS[ci]? = some (q.1, q.2.1, q.2.2) from hc)
  obtain ⟨cell, q1, q2, q30, q31, q32, q4⟩ := hR.obj hkd hc
  obtain ⟨hS, hfc, kC, hkC, hkind⟩ := hC.kf.1.1 ci _ hc
  obtain ⟨cf, kf, fi, f, hi, hsl⟩ := hS k hk
  have hst := (u_facts hfc hkC (u_lays hC.hts hin hk) hi).1
  have hsm := u_found2 (hsame.imp id (hC.hts _)) hi
  have hloA : g_A (x_G X) a := by
    show g_lo (x_G X) ≤ a
    have e9 := hR.1
    unfold a_lo at hlo
    rw [e9] at hlo
    exact hlo
  have q3 : cell.vm = .none := q30 hloA
  have fin9 : ∀ H1 : Heap, H1[a]? = some (cell.setSlot f.slot v) → H1.size = H.size → (∀ q, q ≠ a → H1[q]? = H[q]?) → W_X X H1 (locs ++ [⟨a, f.slot⟩]) cells slots (F0 (x_m X) (pc + 3) ls rest) := by
    intro H1 e1 e2 e3
    refine kk H1 _ ⟨hU.1.trans hR.1, hU.2.1.trans (hR.2.1.trans e2.symm), fun b => ?_⟩ (hS0.put e2 e3 hloA)
    obtain ⟨-, -, ukd, uai, ual, uar, uo, uv, un⟩ := hU
    by_cases hb : b = a
    · subst hb
      have h5 := (hR.2.2 b)
      unfold a_at
      rw [ukd, hkd]
      have h18 : ci ≤ 18 := by
        have := (List.getElem?_eq_some_iff.mp hc).1
        have h9 : CLS.length = 19 := rfl
        omega
      refine ⟨fun hh => by omega, fun hh => by omega, fun hh => by omega, fun cj hcj _ => ?_, fun hh => by omega⟩
      have : cj = ci := by omega
      subst this
      refine ⟨q, hc, _, e1, q2, fun _ => q3, q31, q32, fun j hj => ?_⟩
      rw [hsl]
      rw [t_set q4 hap hk v j hj]
      unfold updV
      by_cases hjk : j = k
      · subst hjk
        rw [if_pos rfl, uv cj j hkey]
      · rw [if_neg hjk]
        have hjl : j < (KEYS cj).length := by rw [hlen]; exact hj
        obtain ⟨⟨key', tc'⟩, hj9⟩ : ∃ z, (KEYS cj)[j]? = some z := ⟨_, List.getElem?_eq_getElem hjl⟩
        rw [un cj j key' ⟨tc', hj9⟩ (fun e => hjk (keys_inj hc (e ▸ hj9) hkey))]
    · obtain ⟨o1, o2, o3⟩ := uo b hb
      exact (hR.2.2 b).to (e3 b hb) (by rw [ukd]) o1 o2 o3 (by rw [uai]) (by rw [ual]) (by rw [uar])
  have hlt : f.slot < cell.slots.size := by rw [hsl]; exact k2_hasslot (q4 k hk)
  have hlay := hC.hts _ (hin _ (u_in_lay hk))
  unfold u_lay at hlay
  cases fin with
  | false =>
    rw [if_neg (by rw [hfin]; decide)] at hlay
    have h6 := u_store hfc hkC hkind hlay hi hpd hn hfit
    rcases hlink with hl | ⟨-, host, hl⟩
    · exact W.putK hC.exec hC.code (f := f) ⟨hC.own, hC.hts _ hl, ⟨_, _, _, hsm⟩, hst⟩ (by rw [q2]; exact h6) q1 q3 hlt rfl rfl hd fin9
    · exact va_WputK hC.exec hC.code (f := f) hC.own (nw_use rfl (hC.kf.2.1 _ hl rfl)) hsm hst (by rw [q2]; exact h6) q1 q3 hlt rfl rfl hd fin9
  | true =>
    rw [if_pos hfin] at hlay
    have hcf : (x_m X).cls = cf := by
      obtain ⟨_, _, c', _, _, _, -, -, hf', -, -, -, hown2, -⟩ := Cond.laysFinal_spec hlay
      have e1 : c' = cf := by have := hi.symm.trans hf'; simp at this; exact this.1.symm
      rw [hdecl rfl] at hown2
      rw [← e1]; exact Option.some.inj (hC.own.symm.trans hown2)
    have h6 := u_fits hfc hkC hkind (Or.inr hlay) hi hpd hn hfit
    rcases hlink with hl | ⟨hh, -⟩
    · exact W.putFinK hC.exec hC.code hC.own (hC.hts _ hl) hsm hst hcf (hC.name.trans (hin2 rfl)) (by rw [q2]; exact h6) q1 q3 hlt rfl rfl hd fin9
    · cases hh
end HP
