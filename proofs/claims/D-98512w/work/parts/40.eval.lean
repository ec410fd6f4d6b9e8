/-! reading behind writing -/
theorem of_eq {α : Type} {a b : α} (h : a = b) : a = b := h
section EV
variable {h : AH} {k a k' a' n : Nat} {v : Int32} {w : Int64} {r : Option Nat} {t : Nat × Nat}
theorem gs_cs_fi : a_cs (s_fi h k a v) = a_cs h := of_eq rfl
theorem gs_kd_fi : a_kd (s_fi h k a v) = a_kd h := of_eq rfl
theorem gs_fi_fi : a_fi (s_fi h k a v) k' a' = if k' = k ∧ a' = a then v else a_fi h k' a' := of_eq rfl
theorem gs_fl_fi : a_fl (s_fi h k a v) = a_fl h := of_eq rfl
theorem gs_fr_fi : a_fr (s_fi h k a v) = a_fr h := of_eq rfl
theorem gs_ai_fi : a_ai (s_fi h k a v) = a_ai h := of_eq rfl
theorem gs_al_fi : a_al (s_fi h k a v) = a_al h := of_eq rfl
theorem gs_ar_fi : a_ar (s_fi h k a v) = a_ar h := of_eq rfl
theorem gs_sz_fi : a_sz (s_fi h k a v) = a_sz h := of_eq rfl
theorem gs_sl_fi : a_sl (s_fi h k a v) = a_sl h := of_eq rfl
theorem gs_cs_fl : a_cs (s_fl h k a w) = a_cs h := of_eq rfl
theorem gs_kd_fl : a_kd (s_fl h k a w) = a_kd h := of_eq rfl
theorem gs_fi_fl : a_fi (s_fl h k a w) = a_fi h := of_eq rfl
theorem gs_fl_fl : a_fl (s_fl h k a w) k' a' = if k' = k ∧ a' = a then w else a_fl h k' a' := of_eq rfl
theorem gs_fr_fl : a_fr (s_fl h k a w) = a_fr h := of_eq rfl
theorem gs_ai_fl : a_ai (s_fl h k a w) = a_ai h := of_eq rfl
theorem gs_al_fl : a_al (s_fl h k a w) = a_al h := of_eq rfl
theorem gs_ar_fl : a_ar (s_fl h k a w) = a_ar h := of_eq rfl
theorem gs_sz_fl : a_sz (s_fl h k a w) = a_sz h := of_eq rfl
theorem gs_sl_fl : a_sl (s_fl h k a w) = a_sl h := of_eq rfl
theorem gs_cs_fr : a_cs (s_fr h k a r) = a_cs h := of_eq rfl
theorem gs_kd_fr : a_kd (s_fr h k a r) = a_kd h := of_eq rfl
theorem gs_fi_fr : a_fi (s_fr h k a r) = a_fi h := of_eq rfl
theorem gs_fl_fr : a_fl (s_fr h k a r) = a_fl h := of_eq rfl
theorem gs_fr_fr : a_fr (s_fr h k a r) k' a' = if k' = k ∧ a' = a then r else a_fr h k' a' := of_eq rfl
theorem gs_ai_fr : a_ai (s_fr h k a r) = a_ai h := of_eq rfl
theorem gs_al_fr : a_al (s_fr h k a r) = a_al h := of_eq rfl
theorem gs_ar_fr : a_ar (s_fr h k a r) = a_ar h := of_eq rfl
theorem gs_sz_fr : a_sz (s_fr h k a r) = a_sz h := of_eq rfl
theorem gs_sl_fr : a_sl (s_fr h k a r) = a_sl h := of_eq rfl
theorem gs_cs_ai : a_cs (s_ai h a k v) = a_cs h := of_eq rfl
theorem gs_kd_ai : a_kd (s_ai h a k v) = a_kd h := of_eq rfl
theorem gs_fi_ai : a_fi (s_ai h a k v) = a_fi h := of_eq rfl
theorem gs_fl_ai : a_fl (s_ai h a k v) = a_fl h := of_eq rfl
theorem gs_fr_ai : a_fr (s_ai h a k v) = a_fr h := of_eq rfl
theorem gs_ai_ai : a_ai (s_ai h a k v) k' a' = if k' = a ∧ a' = k then v else a_ai h k' a' := of_eq rfl
theorem gs_al_ai : a_al (s_ai h a k v) = a_al h := of_eq rfl
theorem gs_ar_ai : a_ar (s_ai h a k v) = a_ar h := of_eq rfl
theorem gs_sz_ai : a_sz (s_ai h a k v) = a_sz h := of_eq rfl
theorem gs_sl_ai : a_sl (s_ai h a k v) = a_sl h := of_eq rfl
theorem gs_cs_al : a_cs (s_al h a k w) = a_cs h := of_eq rfl
theorem gs_kd_al : a_kd (s_al h a k w) = a_kd h := of_eq rfl
theorem gs_fi_al : a_fi (s_al h a k w) = a_fi h := of_eq rfl
theorem gs_fl_al : a_fl (s_al h a k w) = a_fl h := of_eq rfl
theorem gs_fr_al : a_fr (s_al h a k w) = a_fr h := of_eq rfl
theorem gs_ai_al : a_ai (s_al h a k w) = a_ai h := of_eq rfl
theorem gs_al_al : a_al (s_al h a k w) k' a' = if k' = a ∧ a' = k then w else a_al h k' a' := of_eq rfl
theorem gs_ar_al : a_ar (s_al h a k w) = a_ar h := of_eq rfl
theorem gs_sz_al : a_sz (s_al h a k w) = a_sz h := of_eq rfl
theorem gs_sl_al : a_sl (s_al h a k w) = a_sl h := of_eq rfl
theorem gs_cs_ar : a_cs (s_ar h a k r) = a_cs h := of_eq rfl
theorem gs_kd_ar : a_kd (s_ar h a k r) = a_kd h := of_eq rfl
theorem gs_fi_ar : a_fi (s_ar h a k r) = a_fi h := of_eq rfl
theorem gs_fl_ar : a_fl (s_ar h a k r) = a_fl h := of_eq rfl
theorem gs_fr_ar : a_fr (s_ar h a k r) = a_fr h := of_eq rfl
theorem gs_ai_ar : a_ai (s_ar h a k r) = a_ai h := of_eq rfl
theorem gs_al_ar : a_al (s_ar h a k r) = a_al h := of_eq rfl
theorem gs_ar_ar : a_ar (s_ar h a k r) k' a' = if k' = a ∧ a' = k then r else a_ar h k' a' := of_eq rfl
theorem gs_sz_ar : a_sz (s_ar h a k r) = a_sz h := of_eq rfl
theorem gs_sl_ar : a_sl (s_ar h a k r) = a_sl h := of_eq rfl
theorem gs_cs_n : a_cs (n_cell h t n) = a_cs h := of_eq rfl
theorem gs_kd_n : a_kd (n_cell h t n) a = if a = a_sz h then t else a_kd h a := of_eq rfl
theorem gs_fi_n : a_fi (n_cell h t n) k a = if a = a_sz h then 0 else a_fi h k a := of_eq rfl
theorem gs_fl_n : a_fl (n_cell h t n) k a = if a = a_sz h then 0 else a_fl h k a := of_eq rfl
theorem gs_fr_n : a_fr (n_cell h t n) k a = if a = a_sz h then none else a_fr h k a := of_eq rfl
theorem gs_ai_n : a_ai (n_cell h t n) a k = if a = a_sz h then 0 else a_ai h a k := of_eq rfl
theorem gs_al_n : a_al (n_cell h t n) a k = if a = a_sz h then 0 else a_al h a k := of_eq rfl
theorem gs_ar_n : a_ar (n_cell h t n) a k = if a = a_sz h then none else a_ar h a k := of_eq rfl
theorem gs_sz_n : a_sz (n_cell h t n) = a_sz h + 1 := of_eq rfl
theorem gs_sl_n : a_sl (n_cell h t n) = a_sl h + n := of_eq rfl
theorem va_rf_some {x : Nat} : va_rf (some x) = .ref x := rfl
theorem va_rf_none : va_rf none = .null := rfl
theorem p_ok_int {x : Int32} : p_ok .int x = true := rfl
end EV
