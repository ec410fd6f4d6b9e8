/-! numbers as rewriting -/
theorem nI_ne_m1 {n : Nat} (h : n < 2 ^ 31) : ¬ nI n = -1 := by
  intro q
  have h1 := nI_toInt h
  rw [q] at h1
  have h2 : (-1 : Int32).toInt = -1 := by decide
  omega
theorem nI_c0 : (0 : Int32) = nI 0 := rfl
theorem nI_c1 : (1 : Int32) = nI 1 := rfl
theorem nI_c2 : (2 : Int32) = nI 2 := rfl
theorem nI_c3 : (3 : Int32) = nI 3 := rfl
theorem nI_c4 : (4 : Int32) = nI 4 := rfl
theorem nI_c5 : (5 : Int32) = nI 5 := rfl
theorem nI_c6 : (6 : Int32) = nI 6 := rfl
theorem nI_c7 : (7 : Int32) = nI 7 := rfl
theorem nI_c8 : (8 : Int32) = nI 8 := rfl
theorem nI_c9 : (9 : Int32) = nI 9 := rfl
theorem nI_c10 : (10 : Int32) = nI 10 := rfl
theorem nI_c11 : (11 : Int32) = nI 11 := rfl
theorem nI_c12 : (12 : Int32) = nI 12 := rfl
theorem nI_c13 : (13 : Int32) = nI 13 := rfl
theorem nI_c15 : (15 : Int32) = nI 15 := rfl
theorem nI_c16 : (16 : Int32) = nI 16 := rfl
theorem nI_c17 : (17 : Int32) = nI 17 := rfl
theorem nI_c18 : (18 : Int32) = nI 18 := rfl
theorem nI_c20 : (20 : Int32) = nI 20 := rfl
theorem nI_c24 : (24 : Int32) = nI 24 := rfl
theorem nI_c25 : (25 : Int32) = nI 25 := rfl
theorem nI_c31 : (31 : Int32) = nI 31 := rfl
theorem nI_c32 : (32 : Int32) = nI 32 := rfl
theorem nI_c44 : (44 : Int32) = nI 44 := rfl
theorem nI_c48 : (48 : Int32) = nI 48 := rfl
theorem nI_c54 : (54 : Int32) = nI 54 := rfl
theorem nI_c57 : (57 : Int32) = nI 57 := rfl
theorem nI_c59 : (59 : Int32) = nI 59 := rfl
theorem nI_c60 : (60 : Int32) = nI 60 := rfl
theorem nI_c63 : (63 : Int32) = nI 63 := rfl
theorem nI_c74 : (74 : Int32) = nI 74 := rfl
theorem nI_c75 : (75 : Int32) = nI 75 := rfl
theorem nI_c97 : (97 : Int32) = nI 97 := rfl
theorem nI_c99 : (99 : Int32) = nI 99 := rfl
theorem nI_c100 : (100 : Int32) = nI 100 := rfl
theorem nI_c122 : (122 : Int32) = nI 122 := rfl
theorem nI_c144 : (144 : Int32) = nI 144 := rfl
theorem nI_c200 : (200 : Int32) = nI 200 := rfl
theorem nI_c255 : (255 : Int32) = nI 255 := rfl
theorem nI_c270 : (270 : Int32) = nI 270 := rfl
theorem nI_c288 : (288 : Int32) = nI 288 := rfl
theorem nI_c1000 : (1000 : Int32) = nI 1000 := rfl
theorem nI_c65536 : (65536 : Int32) = nI 65536 := rfl
theorem nI_c65537 : (65537 : Int32) = nI 65537 := rfl
theorem nI_c1000000 : (1000000 : Int32) = nI 1000000 := rfl

/-- NONE and FREE -/
def m1 : Int32 := -1
def m2 : Int32 := -2
theorem nI_m1 : (-1 : Int32) = m1 := rfl
theorem nI_m2 : (-2 : Int32) = m2 := rfl
theorem m1_toInt : m1.toInt = -1 := by decide
theorem m2_toInt : m2.toInt = -2 := by decide
theorem b_in_nI {j n : Nat} (hj : j < n) (hn : n < 2 ^ 31) : b_in (nI j) n = true := by
  unfold b_in
  have h1 : ¬ nI j < 0 := nI_pos (by omega)
  have h2 : ¬ n ≤ (nI j).toNatClampNeg := by rw [nI_clamp (by omega)]; omega
  simp [h1, h2]
theorem nI_eq_ {a b : Nat} (ha : a < 2147483648) (hb : b < 2147483648) : (nI a = nI b) = (a = b) := propext (nI_eq ha hb)
theorem nI_le_ {a b : Nat} (ha : a < 2147483648) (hb : b < 2147483648) : (nI a ≤ nI b) = (a ≤ b) := propext (nI_leI ha hb)
theorem nI_lt_ {a b : Nat} (ha : a < 2147483648) (hb : b < 2147483648) : (nI a < nI b) = (a < b) := propext (nI_ltI ha hb)
theorem nI_div_ {a d : Nat} (ha : a < 2147483648) (h0 : 0 < d) (hd : d < 2147483648) : nI a / nI d = nI (a / d) := pk_div ha h0 hd
theorem nI_rem_ {a d : Nat} (ha : a < 2147483648) (h0 : 0 < d) (hd : d < 2147483648) : nI a - nI (a / d) * nI d = nI (a % d) := by
  rw [← pk_div ha h0 hd]; exact pk_rem ha h0 hd
theorem m1_e {a : Nat} (ha : a < 2147483648) : (nI a = m1) = False := eq_false (nI_ne_m1 ha)
theorem m1_e3 {a : Nat} (ha : a < 2147483648) : (m1 = nI a) = False := eq_false (fun q => nI_ne_m1 ha q.symm)
theorem m1_e4 : (m1 = m1) = True := eq_true rfl
theorem m1_l1 {a : Nat} (ha : a < 2147483648) : (nI a < m1) = False := eq_false (by rw [Int32.lt_iff_toInt_lt, nI_toInt ha, m1_toInt]; omega)
theorem m1_l2 {a : Nat} (ha : a < 2147483648) : (m1 < nI a) = True := eq_true (by rw [Int32.lt_iff_toInt_lt, nI_toInt ha, m1_toInt]; omega)
theorem m1_l3 {a : Nat} (ha : a < 2147483648) : (nI a ≤ m1) = False := eq_false (by rw [Int32.le_iff_toInt_le, nI_toInt ha, m1_toInt]; omega)
theorem m1_l4 {a : Nat} (ha : a < 2147483648) : (m1 ≤ nI a) = True := eq_true (by rw [Int32.le_iff_toInt_le, nI_toInt ha, m1_toInt]; omega)
theorem m2_e1 {a : Nat} (ha : a < 2147483648) : (nI a = m2) = False := eq_false (by intro q; have := nI_toInt ha; rw [q, m2_toInt] at this; omega)
theorem m2_e2 {a : Nat} (ha : a < 2147483648) : (m2 = nI a) = False := eq_false (by intro q; have := nI_toInt ha; rw [← q, m2_toInt] at this; omega)
theorem m2_m1 : (m2 = m1) = False := eq_false (by decide)
theorem m1_m2 : (m1 = m2) = False := eq_false (by decide)
theorem nI_if0 {P : Prop} [Decidable P] : (nI (if P then 1 else 0) = nI 0) = ¬ P := by
  by_cases h : P <;> simp [h] <;> decide
theorem nI_if1 {P : Prop} [Decidable P] : (nI (if P then 1 else 0) = nI 1) = P := by
  by_cases h : P <;> simp [h] <;> decide
theorem p_ok_b {P : Prop} [Decidable P] : p_ok .boolean (nI (if P then 1 else 0)) = true := by
  by_cases h : P <;> simp [h] <;> decide
theorem p_ok_b0 : p_ok .boolean (nI 0) = true := rfl
theorem p_ok_b1 : p_ok .boolean (nI 1) = true := rfl
/-- a counting loop over states that are written out -/
theorem loop_for {R : Type} {B : KK (L_S ⊕ R)} {r : R} (st : Nat → L_S) {n : Nat} : ∀ (d i : Nat), i + d = n → (∀ j, i ≤ j → j < n → B (st j).1 (st j).2.1 (st j).2.2 = some (.inl (st (j + 1)))) → B (st n).1 (st n).2.1 (st n).2.2 = some (.inr r) → op_loop B (st i).1 (st i).2.1 (st i).2.2 = some r
  | 0, i, hi, hs, he => by
    have : i = n := by omega
    subst this
    unfold op_loop
    rw [lp_w_eq]
    simp only [he]
  | d + 1, i, hi, hs, he => by
    have ih := loop_for (r := r) st d (i + 1) (by omega) (fun j h1 h2 => hs j (by omega) h2) he
    unfold op_loop at ih ⊢
    rw [lp_w_eq]
    simp only [hs i (by omega) (by omega)]
    exact ih
/-- a counting loop over states of which something is known -/
theorem loop_inv {R : Type} {B : KK (L_S ⊕ R)} (I : Nat → L_S → Prop) (Q : R → Prop) {n : Nat} (hs : ∀ i s, i < n → I i s → ∃ s', B s.1 s.2.1 s.2.2 = some (.inl s') ∧ I (i + 1) s') (he : ∀ s, I n s → ∃ r, B s.1 s.2.1 s.2.2 = some (.inr r) ∧ Q r) : ∀ (d i : Nat) (L : LL) (S : SS) (h : AH), i + d = n → I i (L, S, h) → ∃ r, op_loop B L S h = some r ∧ Q r
  | 0, i, L, S, h, hi, hI => by
    have : i = n := by omega
    subst this
    obtain ⟨r, e, q⟩ := he _ hI
    refine ⟨r, ?_, q⟩
    unfold op_loop
    rw [lp_w_eq]
    simp only at e
    simp only [e]
  | d + 1, i, L, S, h, hi, hI => by
    obtain ⟨⟨L', S', h'⟩, e, q⟩ := hs i _ (by omega) hI
    obtain ⟨r, e', q'⟩ := loop_inv I Q hs he d (i + 1) L' S' h' (by omega) q
    refine ⟨r, ?_, q'⟩
    unfold op_loop at e' ⊢
    rw [lp_w_eq]
    simp only at e
    simp only [e]
    exact e'
/-! longs -/
theorem lN_le_ {a b : Nat} (ha : a < 9223372036854775808) (hb : b < 9223372036854775808) : (lN a ≤ lN b) = (a ≤ b) := propext (pk_lLE ha hb)
theorem lN_lt_ {a b : Nat} (ha : a < 9223372036854775808) (hb : b < 9223372036854775808) : (lN a < lN b) = (a < b) := propext (pk_lLT ha hb)
theorem lN_eq_ {a b : Nat} (ha : a < 9223372036854775808) (hb : b < 9223372036854775808) : (lN a = lN b) = (a = b) := propext (pk_lEQ ha hb)
theorem lN_div_ {a d : Nat} (ha : a < 9223372036854775808) (h0 : 0 < d) (hd : d < 9223372036854775808) : lN a / lN d = lN (a / d) := pk_lDiv ha h0 hd
theorem lN_rem_ {a d : Nat} (ha : a < 9223372036854775808) (h0 : 0 < d) (hd : d < 9223372036854775808) : lN a - lN (a / d) * lN d = lN (a % d) := by
  rw [← pk_lDiv ha h0 hd]; exact pk_lRem ha h0 hd
theorem lN_c0 : (0 : Int64) = lN 0 := rfl
theorem lN_c1 : (1 : Int64) = lN 1 := rfl
theorem lN_c2 : (2 : Int64) = lN 2 := rfl
theorem lN_c20 : (20 : Int64) = lN 20 := rfl
theorem lN_c32 : (32 : Int64) = lN 32 := rfl
theorem lN_c74 : (74 : Int64) = lN 74 := rfl
theorem lN_c75 : (75 : Int64) = lN 75 := rfl
theorem lN_c100 : (100 : Int64) = lN 100 := rfl
theorem lN_c200 : (200 : Int64) = lN 200 := rfl
theorem lN_c65537 : (65537 : Int64) = lN 65537 := rfl
/-- a long -1 -/
def lm1 : Int64 := -1
theorem lN_m1 : (-1 : Int64) = lm1 := rfl
theorem nI_l_ {n : Nat} (h : n < 2147483648) : (nI n).toInt64 = lN n := nI_l h
theorem m1_l : m1.toInt64 = lm1 := by decide
theorem lm1_toInt : lm1.toInt = -1 := by decide
theorem lg_lN {a b : Nat} (ha : a < 9223372036854775808) (hb : b < 9223372036854775808) : lg_cmp (lN a) (lN b) = if b < a then nI 1 else if a = b then nI 0 else m1 := by
  unfold lg_cmp
  simp only [gt_iff_lt, lN_lt_ hb ha, lN_eq_ ha hb]
  rfl
/-- a difference against 0 -/
theorem lg_sub {a b : Nat} (ha : a < 2147483648) (hb : b < 2147483648) : lg_cmp (lN a - lN b) (lN 0) = if b < a then nI 1 else if a = b then nI 0 else m1 := by
  have e : (lN a - lN b).toInt = (a : Int) - b := by
    rw [Int64.toInt_sub, lN_toInt ha, lN_toInt hb]
    apply Int.bmod_eq_of_le <;> omega
  have e0 : (lN 0).toInt = 0 := by decide
  unfold lg_cmp
  have h1 : (lN a - lN b > lN 0) = (b < a) := by
    rw [gt_iff_lt, Int64.lt_iff_toInt_lt, e, e0]
    exact propext ⟨fun h => by omega, fun h => by omega⟩
  have h2 : (lN a - lN b = lN 0) = (a = b) := by
    rw [← Int64.toInt_inj, e, e0]
    exact propext ⟨fun h => by omega, fun h => by omega⟩
  simp only [h1, h2]
  rfl
theorem lg_m1 : lg_cmp lm1 (lN 0) = m1 := by decide
theorem lg_m1' {a : Nat} (ha : a < 9223372036854775808) : lg_cmp (lN a) lm1 = nI 1 := by
  unfold lg_cmp
  have h : lN a > lm1 := by
    rw [gt_iff_lt, Int64.lt_iff_toInt_lt, pk_lT (by simpa using ha), lm1_toInt]; omega
  rw [if_pos h]; rfl
theorem lg_m1_m1 : lg_cmp lm1 lm1 = nI 0 := by decide
theorem lg_m1r {a : Nat} (ha : a < 9223372036854775808) : lg_cmp lm1 (lN a) = m1 := by
  unfold lg_cmp
  have h : ¬ lm1 > lN a := by
    rw [gt_iff_lt, Int64.lt_iff_toInt_lt, pk_lT (by simpa using ha), lm1_toInt]; omega
  have h2 : ¬ lm1 = lN a := by
    intro q
    have := pk_lT (n := a) (by simpa using ha)
    rw [← q, lm1_toInt] at this
    omega
  rw [if_neg h, if_neg h2]; rfl
/-- an if that chooses a number, tested -/
theorem nI3_le {P Q : Prop} [Decidable P] [Decidable Q] : ((if P then nI 1 else if Q then nI 0 else m1) ≤ nI 0) = ¬ P := by
  by_cases h : P <;> by_cases h2 : Q <;> simp [h, h2] <;> decide
theorem nI3_e0 {P Q : Prop} [Decidable P] [Decidable Q] : ((if P then nI 1 else if Q then nI 0 else m1) = nI 0) = (¬ P ∧ Q) := by
  by_cases h : P <;> by_cases h2 : Q <;> simp [h, h2] <;> decide
theorem nI3_ge {P Q : Prop} [Decidable P] [Decidable Q] : (nI 0 ≤ (if P then nI 1 else if Q then nI 0 else m1)) = (P ∨ Q) := by
  by_cases h : P <;> by_cases h2 : Q <;> simp [h, h2] <;> decide
theorem nI3_gt {P Q : Prop} [Decidable P] [Decidable Q] : (nI 0 < (if P then nI 1 else if Q then nI 0 else m1)) = P := by
  by_cases h : P <;> by_cases h2 : Q <;> simp [h, h2] <;> decide
theorem nI3_lt {P Q : Prop} [Decidable P] [Decidable Q] : ((if P then nI 1 else if Q then nI 0 else m1) < nI 0) = (¬ P ∧ ¬ Q) := by
  by_cases h : P <;> by_cases h2 : Q <;> simp [h, h2] <;> decide
/-! what omega can tell -/
theorem o_le_t {a b : Nat} (h : a ≤ b) : (a ≤ b) = True := eq_true h
theorem o_le_f {a b : Nat} (h : b < a) : (a ≤ b) = False := eq_false (by omega)
theorem o_lt_t {a b : Nat} (h : a < b) : (a < b) = True := eq_true h
theorem o_lt_f {a b : Nat} (h : b ≤ a) : (a < b) = False := eq_false (by omega)
theorem o_eq_t {a b : Nat} (h : a = b) : (a = b) = True := eq_true h
theorem o_eq_f {a b : Nat} (h : a ≠ b) : (a = b) = False := eq_false h
theorem nI2_le {Q : Prop} [Decidable Q] : ((if Q then nI 0 else m1) ≤ nI 0) = True := by by_cases h : Q <;> simp [h] <;> decide
theorem nI2_e0 {Q : Prop} [Decidable Q] : ((if Q then nI 0 else m1) = nI 0) = Q := by by_cases h : Q <;> simp [h] <;> decide
theorem nI2_ge {Q : Prop} [Decidable Q] : (nI 0 ≤ (if Q then nI 0 else m1)) = Q := by by_cases h : Q <;> simp [h] <;> decide
theorem nI2_gt {Q : Prop} [Decidable Q] : (nI 0 < (if Q then nI 0 else m1)) = False := by by_cases h : Q <;> simp [h] <;> decide
theorem nI2_lt {Q : Prop} [Decidable Q] : ((if Q then nI 0 else m1) < nI 0) = ¬ Q := by by_cases h : Q <;> simp [h] <;> decide
theorem nI4_le {Q : Prop} [Decidable Q] : ((if Q then nI 1 else m1) ≤ nI 0) = ¬ Q := by by_cases h : Q <;> simp [h] <;> decide
theorem nI4_e0 {Q : Prop} [Decidable Q] : ((if Q then nI 1 else m1) = nI 0) = False := by by_cases h : Q <;> simp [h] <;> decide
theorem nI4_ge {Q : Prop} [Decidable Q] : (nI 0 ≤ (if Q then nI 1 else m1)) = Q := by by_cases h : Q <;> simp [h] <;> decide
theorem nI4_gt {Q : Prop} [Decidable Q] : (nI 0 < (if Q then nI 1 else m1)) = Q := by by_cases h : Q <;> simp [h] <;> decide
theorem nI4_lt {Q : Prop} [Decidable Q] : ((if Q then nI 1 else m1) < nI 0) = ¬ Q := by by_cases h : Q <;> simp [h] <;> decide
section EVL
variable {h : AH} {k a n : Nat} {v : Int32} {w : Int64} {r : Option Nat} {t : Nat × Nat}
theorem gs_lo_fi : a_lo (s_fi h k a v) = a_lo h := of_eq rfl
theorem gs_lo_fl : a_lo (s_fl h k a w) = a_lo h := of_eq rfl
theorem gs_lo_fr : a_lo (s_fr h k a r) = a_lo h := of_eq rfl
theorem gs_lo_ai : a_lo (s_ai h a k v) = a_lo h := of_eq rfl
theorem gs_lo_al : a_lo (s_al h a k w) = a_lo h := of_eq rfl
theorem gs_lo_ar : a_lo (s_ar h a k r) = a_lo h := of_eq rfl
theorem gs_lo_n : a_lo (n_cell h t n) = a_lo h := of_eq rfl
end EVL
theorem n_rem {a d : Nat} : a - a / d * d = a % d := by
  have h := Nat.div_add_mod' a d
  omega
theorem nI_sr {a d : Nat} : nI a - nI (a / d * d) = nI (a % d) := by rw [pk_sub (Nat.div_mul_le_self a d), n_rem]
theorem lN_sr {a d : Nat} : lN a - lN (a / d * d) = lN (a % d) := by rw [lN_sub (Nat.div_mul_le_self a d), n_rem]
theorem nI5_le {Q : Prop} [Decidable Q] : ((if Q then nI 1 else nI 0) ≤ nI 0) = ¬ Q := by by_cases h : Q <;> simp [h] <;> decide
theorem nI5_e0 {Q : Prop} [Decidable Q] : ((if Q then nI 1 else nI 0) = nI 0) = ¬ Q := by by_cases h : Q <;> simp [h] <;> decide
theorem nI5_ge {Q : Prop} [Decidable Q] : (nI 0 ≤ (if Q then nI 1 else nI 0)) = True := by by_cases h : Q <;> simp [h] <;> decide
theorem nI5_gt {Q : Prop} [Decidable Q] : (nI 0 < (if Q then nI 1 else nI 0)) = Q := by by_cases h : Q <;> simp [h] <;> decide
theorem nI5_lt {Q : Prop} [Decidable Q] : ((if Q then nI 1 else nI 0) < nI 0) = False := by by_cases h : Q <;> simp [h] <;> decide
