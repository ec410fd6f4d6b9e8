/-! the ops on a stack that is written out; nothing of what follows is looked into before it is reached -/
section EVD
variable {R : Type}
/-- a test between two goings on -/
def g_if (c : Prop) [Decidable c] (k1 k2 : KK R) : KK R := fun L S h => if c then k1 L S h else k2 L S h
def w_fi (key a : Nat) (x : Int32) (k : KK R) : KK R := fun L S h => k L S (s_fi h key a x)
def w_fl (key a : Nat) (x : Int64) (k : KK R) : KK R := fun L S h => k L S (s_fl h key a x)
def w_fr (key a : Nat) (x : Option Nat) (k : KK R) : KK R := fun L S h => k L S (s_fr h key a x)
def w_ai (a j : Nat) (x : Int32) (k : KK R) : KK R := fun L S h => k L S (s_ai h a j x)
def w_al (a j : Nat) (x : Int64) (k : KK R) : KK R := fun L S h => k L S (s_al h a j x)
def w_ar (a j : Nat) (x : Option Nat) (k : KK R) : KK R := fun L S h => k L S (s_ar h a j x)
def w_cp (a sp b dp n : Nat) (k : KK R) : KK R := fun L S h => k L S (s_cp h a sp b dp n)
def w_nw (t : Nat × Nat) (n : Nat) (k : KK R) : KK R := fun L S h => k L (.ref (a_sz h) :: S) (n_cell h t n)
def w_cl (n : Nat) (F : FF) (kx : KX R) (k : KK R) : KK R := fun L S h => match F (S.take n).reverse h with
  | some (.inl (some v), h') => k L (v :: S.drop n) h'
  | some (.inl none, h') => k L (S.drop n) h'
  | some (.inr q, h') => kx L q h'
  | none => none
def w_kx (kx : KX R) (q : Nat) : KK R := fun L _ h => kx L q h
def w_fin (r : Option Value ⊕ Nat) : KK OO := fun _ _ h => some (r, h)
/-- a test between two functions -/
def f_if (c : Prop) [Decidable c] (F1 F2 : FF) : FF := fun av h => if c then F1 av h else F2 av h
def f_no : FF := fun _ _ => none
/-- the first function, if it is its receiver; the second one goes on where the first is stuck -/
def f_or3 (o : Option OO) (F2 : FF) (av : List Value) (h : AH) : Option OO := match o with
  | some o => some o
  | none => F2 av h
def f_or2 (c : Prop) [Decidable c] (F1 F2 : FF) : FF := fun av h => if c then f_or3 (F1 av h) F2 av h else F2 av h
variable {c : Prop} {k k1 k2 : KK R} {kx : KX R} {L : LL} {S : SS} {h : AH} {F1 F2 F : FF} {av : List Value} {n : Nat} {t : Nat × Nat} {v : Value} {a j sp b dp q : Nat} {x : Int32} {u : Int64} {o : Option Nat} {r : Option Value ⊕ Nat} {L' : LL}
theorem g_if_pos {i : Decidable c} (hc : c) : @g_if R c i k1 k2 L S h = k1 L S h := by simp [g_if, hc]
theorem g_if_neg {i : Decidable c} (hc : ¬ c) : @g_if R c i k1 k2 L S h = k2 L S h := by simp [g_if, hc]
theorem g_if_t : g_if True k1 k2 L S h = k1 L S h := of_eq rfl
theorem g_if_f : g_if False k1 k2 L S h = k2 L S h := of_eq rfl
theorem g_if_t2 {i : Decidable True} : @g_if R True i k1 k2 L S h = k1 L S h := g_if_pos trivial
theorem g_if_f2 {i : Decidable False} : @g_if R False i k1 k2 L S h = k2 L S h := g_if_neg (fun h => h)
theorem g_if_n {i : Decidable (¬ c)} : @g_if R (¬ c) i k1 k2 L S h = @g_if R c (Classical.propDecidable c) k2 k1 L S h := by
  by_cases hc : c
  · rw [g_if_neg (fun q => q hc), g_if_pos hc]
  · rw [g_if_pos hc, g_if_neg hc]
theorem f_if_pos {i : Decidable c} (hc : c) : @f_if c i F1 F2 av h = F1 av h := by simp [f_if, hc]
theorem f_if_neg {i : Decidable c} (hc : ¬ c) : @f_if c i F1 F2 av h = F2 av h := by simp [f_if, hc]
theorem f_if_t : f_if True F1 F2 av h = F1 av h := of_eq rfl
theorem f_if_f : f_if False F1 F2 av h = F2 av h := of_eq rfl
theorem f_or2_f : f_or2 False F1 F2 av h = F2 av h := of_eq rfl
theorem f_or2_t : f_or2 True F1 F2 av h = f_or3 (F1 av h) F2 av h := of_eq rfl
theorem f_or3_s {o : OO} : f_or3 (some o) F2 av h = some o := of_eq rfl
theorem e_w_fi : w_fi a j x k L S h = k L S (s_fi h a j x) := of_eq rfl
theorem e_w_fl : w_fl a j u k L S h = k L S (s_fl h a j u) := of_eq rfl
theorem e_w_fr : w_fr a j o k L S h = k L S (s_fr h a j o) := of_eq rfl
theorem e_w_ai : w_ai a j x k L S h = k L S (s_ai h a j x) := of_eq rfl
theorem e_w_al : w_al a j u k L S h = k L S (s_al h a j u) := of_eq rfl
theorem e_w_ar : w_ar a j o k L S h = k L S (s_ar h a j o) := of_eq rfl
theorem e_w_cp : w_cp a sp b dp n k L S h = k L S (s_cp h a sp b dp n) := of_eq rfl
theorem e_w_nw : w_nw t n k L S h = k L (.ref (a_sz h) :: S) (n_cell h t n) := of_eq rfl
theorem e_w_kx : w_kx kx q L S h = kx L q h := of_eq rfl
theorem e_w_fin : w_fin r L S h = some (r, h) := of_eq rfl
end EVD
section EVS
variable {R : Type} {k k1 k2 : KK R} {kx : KX R} {L : LL} {S S' : SS} {h h' : AH} {i n : Nat} {x y : Int32} {u w : Int64} {a b : Nat} {v v' : Value} {r : Option Nat} {cs : List Nat} {key t : Nat} {ty : FieldType} {F : FF}
def g_ild (k : KK R) (S : SS) (L : LL) (h : AH) : Option (Option Value) → Option R
  | some (some (.int x)) => k L (.int x :: S) h
  | _ => none
theorem e_g_ild : g_ild k S L h (some (some (.int x))) = k L (.int x :: S) h := of_eq rfl
theorem e_ild : op_ild i k L S h = g_ild k S L h (L[i]?) := of_eq rfl
def g_lld (k : KK R) (S : SS) (L : LL) (h : AH) : Option (Option Value) → Option R
  | some (some (.long x)) => k L (.long x :: S) h
  | _ => none
theorem e_g_lld : g_lld k S L h (some (some (.long u))) = k L (.long u :: S) h := of_eq rfl
theorem e_lld : op_lld i k L S h = g_lld k S L h (L[i]?) := of_eq rfl
def g_ald (k : KK R) (S : SS) (L : LL) (h : AH) : Option (Option Value) → Option R
  | some (some (.ref x)) => k L (.ref x :: S) h
  | some (some .null) => k L (.null :: S) h
  | _ => none
theorem e_g_ald : g_ald k S L h (some (some (.ref a))) = k L (.ref a :: S) h := of_eq rfl
theorem e_g_ald0 : g_ald k S L h (some (some .null)) = k L (.null :: S) h := of_eq rfl
theorem e_ald : op_ald i k L S h = g_ald k S L h (L[i]?) := of_eq rfl
def g_iinc (k : KK R) (S : SS) (L : LL) (h : AH) (i : Nat) (d : Int32) : Option (Option Value) → Option R
  | some (some (.int x)) => k (l_st1 L i (.int (x + d))) S h
  | _ => none
theorem e_g_iinc {d : Int32} : g_iinc k S L h i d (some (some (.int x))) = k (l_st1 L i (.int (x + d))) S h := of_eq rfl
theorem e_iinc {d : Int32} : op_iinc i d k L S h = g_iinc k S L h i d (L[i]?) := of_eq rfl
theorem e_push : op_push v k L S h = k L (v :: S) h := of_eq rfl
theorem e_ist : op_ist i k L (.int x :: S) h = k (l_st1 L i (.int x)) S h := of_eq rfl
theorem e_lst : op_lst i k L (.long u :: S) h = k (l_st2 L i (.long u)) S h := of_eq rfl
theorem e_ast : op_ast i k L (.ref a :: S) h = k (l_st1 L i (.ref a)) S h := of_eq rfl
theorem e_ast0 : op_ast i k L (.null :: S) h = k (l_st1 L i .null) S h := of_eq rfl
theorem e_i2 {f : Int32 → Int32 → Int32} : op_i2 f k L (.int y :: .int x :: S) h = k L (.int (f x y) :: S) h := of_eq rfl
theorem e_i2d {f : Int32 → Int32 → Int32} : op_i2d f k L (.int y :: .int x :: S) h = g_if (y = 0) op_stuck (op_push (.int (f x y)) k) L S h := of_eq rfl
theorem e_i1 {f : Int32 → Int32} : op_i1 f k L (.int x :: S) h = k L (.int (f x) :: S) h := of_eq rfl
theorem e_l1 {f : Int64 → Int64} : op_l1 f k L (.long u :: S) h = k L (.long (f u) :: S) h := of_eq rfl
theorem e_l2 {f : Int64 → Int64 → Int64} : op_l2 f k L (.long w :: .long u :: S) h = k L (.long (f u w) :: S) h := of_eq rfl
theorem e_l2d {f : Int64 → Int64 → Int64} : op_l2d f k L (.long w :: .long u :: S) h = g_if (w = 0) op_stuck (op_push (.long (f u w)) k) L S h := of_eq rfl
theorem e_li {f : Int64 → Int32 → Int64} : op_li f k L (.int y :: .long u :: S) h = k L (.long (f u y) :: S) h := of_eq rfl
theorem e_i2l : op_i2l k L (.int x :: S) h = k L (.long x.toInt64 :: S) h := of_eq rfl
theorem e_l2i : op_l2i k L (.long u :: S) h = k L (.int u.toInt32 :: S) h := of_eq rfl
theorem e_lcmp : op_lcmp k L (.long w :: .long u :: S) h = k L (.int (lg_cmp u w) :: S) h := of_eq rfl
theorem e_dup : op_dup k L (v :: S) h = g_if (v.category = 1) (op_push v (op_push v k)) op_stuck L S h := of_eq rfl
theorem e_pop : op_pop k L (v :: S) h = g_if (v.category = 1) k op_stuck L S h := of_eq rfl
theorem e_dup2 : op_dup2 k L (v :: v' :: S) h = g_if (v.category = 1 ∧ v'.category = 1) (op_push v' (op_push v (op_push v' (op_push v k)))) op_stuck L S h := of_eq rfl
theorem e_ieq : op_ieq k1 k2 L (.int x :: S) h = g_if (x = 0) k1 k2 L S h := of_eq rfl
theorem e_ine : op_ine k1 k2 L (.int x :: S) h = g_if (x = 0) k2 k1 L S h := of_eq rfl
theorem e_ilt : op_ilt k1 k2 L (.int x :: S) h = g_if (x < 0) k1 k2 L S h := of_eq rfl
theorem e_ige : op_ige k1 k2 L (.int x :: S) h = g_if (0 ≤ x) k1 k2 L S h := of_eq rfl
theorem e_igt : op_igt k1 k2 L (.int x :: S) h = g_if (0 < x) k1 k2 L S h := of_eq rfl
theorem e_ile : op_ile k1 k2 L (.int x :: S) h = g_if (x ≤ 0) k1 k2 L S h := of_eq rfl
theorem e_ceq : op_ceq k1 k2 L (.int y :: .int x :: S) h = g_if (x = y) k1 k2 L S h := of_eq rfl
theorem e_cne : op_cne k1 k2 L (.int y :: .int x :: S) h = g_if (x = y) k2 k1 L S h := of_eq rfl
theorem e_clt : op_clt k1 k2 L (.int y :: .int x :: S) h = g_if (x < y) k1 k2 L S h := of_eq rfl
theorem e_cge : op_cge k1 k2 L (.int y :: .int x :: S) h = g_if (y ≤ x) k1 k2 L S h := of_eq rfl
theorem e_cgt : op_cgt k1 k2 L (.int y :: .int x :: S) h = g_if (y < x) k1 k2 L S h := of_eq rfl
theorem e_cle : op_cle k1 k2 L (.int y :: .int x :: S) h = g_if (x ≤ y) k1 k2 L S h := of_eq rfl
theorem e_ifn : op_ifn k1 k2 L (.ref a :: S) h = k2 L S h := of_eq rfl
theorem e_ifn0 : op_ifn k1 k2 L (.null :: S) h = k1 L S h := of_eq rfl
theorem e_ifnn : op_ifnn k1 k2 L (.ref a :: S) h = k1 L S h := of_eq rfl
theorem e_ifnn0 : op_ifnn k1 k2 L (.null :: S) h = k2 L S h := of_eq rfl
theorem e_aeq : op_aeq k1 k2 L (.ref b :: .ref a :: S) h = g_if (a = b) k1 k2 L S h := by
  by_cases hq : a = b <;> simp [op_aeq, v_rf?, hq, g_if]
theorem e_ane : op_ane k1 k2 L (.ref b :: .ref a :: S) h = g_if (a = b) k2 k1 L S h := e_aeq
theorem e_sw {c : List (Int32 × KK R)} {d : KK R} : op_sw c d L (.int x :: S) h = (sw_to x c d) L S h := of_eq rfl
theorem e_sw0 {α : Type} {d : α} : sw_to x [] d = d := of_eq rfl
theorem e_sw1 {y : Int32} {k : KK R} {c : List (Int32 × KK R)} {d : KK R} : sw_to x ((y, k) :: c) d L S h = g_if (x = y) k (sw_to x c d) L S h := by
  by_cases hq : x = y <;> simp [sw_to, hq, g_if]
theorem e_gfi : op_gfi cs key k L (.ref a :: S) h = g_if ((a_kd h a).1 ∈ cs) (op_push (.int (a_fi h key a)) k) op_stuck L S h := of_eq rfl
theorem e_gfl : op_gfl cs key k L (.ref a :: S) h = g_if ((a_kd h a).1 ∈ cs) (op_push (.long (a_fl h key a)) k) op_stuck L S h := of_eq rfl
theorem e_gfr : op_gfr cs key k L (.ref a :: S) h = g_if ((a_kd h a).1 ∈ cs) (op_push (va_rf (a_fr h key a)) k) op_stuck L S h := of_eq rfl
theorem e_pfi : op_pfi ty cs key k L (.int x :: .ref a :: S) h = g_if ((a_kd h a).1 ∈ cs ∧ a_lo h ≤ a ∧ p_ok ty x = true) (w_fi key a x k) op_stuck L S h := of_eq rfl
theorem e_pfl : op_pfl cs key k L (.long u :: .ref a :: S) h = g_if ((a_kd h a).1 ∈ cs ∧ a_lo h ≤ a) (w_fl key a u k) op_stuck L S h := of_eq rfl
theorem e_pfr : op_pfr cs key k L (.ref b :: .ref a :: S) h = g_if ((a_kd h a).1 ∈ cs ∧ a_lo h ≤ a) (w_fr key a (some b) k) op_stuck L S h := of_eq rfl
theorem e_pfr0 : op_pfr cs key k L (.null :: .ref a :: S) h = g_if ((a_kd h a).1 ∈ cs ∧ a_lo h ≤ a) (w_fr key a none k) op_stuck L S h := of_eq rfl
theorem e_iald : op_iald t k L (.int x :: .ref a :: S) h = g_if (((a_kd h a).1 = t ∨ (a_kd h a).1 = t + 30) ∧ b_in x (a_kd h a).2 = true) (op_push (.int (a_ai h a x.toNatClampNeg)) k) op_stuck L S h := of_eq rfl
theorem e_lald : op_lald k L (.int x :: .ref a :: S) h = g_if ((a_kd h a).1 = 5 ∧ b_in x (a_kd h a).2 = true) (op_push (.long (a_al h a x.toNatClampNeg)) k) op_stuck L S h := of_eq rfl
theorem e_aald : op_aald t k L (.int x :: .ref a :: S) h = g_if ((a_kd h a).1 = t ∧ b_in x (a_kd h a).2 = true) (op_push (va_rf (a_ar h a x.toNatClampNeg)) k) op_stuck L S h := of_eq rfl
theorem e_aald2 : op_aald2 k L (.int x :: .ref a :: S) h = g_if (((a_kd h a).1 = 6 ∨ (a_kd h a).1 = 8) ∧ b_in x (a_kd h a).2 = true) (op_push (va_rf (a_ar h a x.toNatClampNeg)) k) op_stuck L S h := of_eq rfl
theorem e_iast : op_iast t ty k L (.int y :: .int x :: .ref a :: S) h = g_if ((a_kd h a).1 = t ∧ b_in x (a_kd h a).2 = true ∧ a_lo h ≤ a) (w_ai a x.toNatClampNeg (vp_nar ty y) k) op_stuck L S h := of_eq rfl
theorem e_last : op_last k L (.long u :: .int x :: .ref a :: S) h = g_if ((a_kd h a).1 = 5 ∧ b_in x (a_kd h a).2 = true ∧ a_lo h ≤ a) (w_al a x.toNatClampNeg u k) op_stuck L S h := of_eq rfl
theorem e_aast : op_aast t cs k L (.ref b :: .int x :: .ref a :: S) h = g_if ((a_kd h a).1 = t ∧ b_in x (a_kd h a).2 = true ∧ a_lo h ≤ a ∧ (a_kd h b).1 ∈ cs) (w_ar a x.toNatClampNeg (some b) k) op_stuck L S h := of_eq rfl
theorem e_alen : op_alen k L (.ref a :: S) h = g_if ((1 ≤ (a_kd h a).1 ∧ (a_kd h a).1 ≤ 8) ∨ (31 ≤ (a_kd h a).1 ∧ (a_kd h a).1 ≤ 34)) (op_push (.int (Int32.ofNat (a_kd h a).2)) k) op_stuck L S h := of_eq rfl
theorem e_newa : op_newa t k L (.int x :: S) h = g_if (x < 0 ∨ 536870912 < x.toNatClampNeg * 8) op_stuck (w_nw (t, x.toNatClampNeg) x.toNatClampNeg k) L S h := of_eq rfl
theorem e_new : op_new t n k L S h = k L (.ref (a_sz h) :: S) (n_cell h (t + 10, 0) n) := of_eq rfl
theorem e_mk0 : op_mk0 k L S h = g_if (c_sum S ≤ 8) (w_nw (28, 0) 6 k) op_stuck L S h := of_eq rfl
theorem e_oinit : op_oinit k L (.ref a :: S) h = g_if (c_sum S ≤ 40) k op_stuck L S h := of_eq rfl
theorem e_ldcs : op_ldcs i k L S h = k L (.ref ((a_cs h).2.1 i) :: S) h := of_eq rfl
theorem e_gst : op_gst i k L S h = k L (va_rf ((a_cs h).2.2 i) :: S) h := of_eq rfl
theorem e_cast : op_cast cs k L (.ref a :: S) h = g_if ((a_kd h a).1 ∈ cs) (op_push (.ref a) k) op_stuck L S h := of_eq rfl
theorem e_cast0 : op_cast cs k L (.null :: S) h = k L (.null :: S) h := of_eq rfl
theorem e_inst {cn : List Nat} : op_inst cs cn k L (.ref a :: S) h = g_if ((a_kd h a).1 ∈ cs) (op_push (.int 1) k) (g_if ((a_kd h a).1 ∈ cn) (op_push (.int 0) k) op_stuck) L S h := by
  by_cases h1 : (a_kd h a).1 ∈ cs <;> by_cases h2 : (a_kd h a).1 ∈ cn <;> simp [op_inst, g_if, op_push, op_stuck, h1, h2]
theorem e_inst0 {cn : List Nat} : op_inst cs cn k L (.null :: S) h = k L (.int 0 :: S) h := of_eq rfl
def g_call (kx : KX R) (k : KK R) (L : LL) (S : SS) : Option OO → Option R
  | some (.inl (some v), h') => k L (v :: S) h'
  | some (.inl none, h') => k L S h'
  | some (.inr q, h') => kx L q h'
  | none => none
theorem e_g_c1 : g_call kx k L S (some (.inl (some v), h)) = k L (v :: S) h := of_eq rfl
theorem e_g_c2 : g_call kx k L S (some (.inl none, h)) = k L S h := of_eq rfl
theorem e_g_c3 : g_call kx k L S (some (.inr a, h)) = kx L a h := of_eq rfl
theorem e_call : op_call n F kx k L S h = g_if (n ≤ S.length ∧ c_sum (S.drop n) ≤ 8) (w_cl n F kx k) op_stuck L S h := of_eq rfl
theorem e_w_cl : w_cl n F kx k L S h = g_call kx k L (S.drop n) (F (S.take n).reverse h) := of_eq rfl
theorem e_kd {av : List Value} : f_kd t F (.ref a :: av) h = f_if ((a_kd h a).1 = t) F f_no (.ref a :: av) h := of_eq rfl
theorem e_or {F' : FF} {av : List Value} : f_or (f_kd t F) F' (.ref a :: av) h = f_or2 ((a_kd h a).1 = t) F F' (.ref a :: av) h := by
  by_cases h1 : (a_kd h a).1 = t
  · simp [f_or, f_kd, f_or2, f_or3, h1]
    cases F (.ref a :: av) h <;> rfl
  · simp [f_or, f_kd, f_or2, f_or3, h1]
theorem e_rcv {av : List Value} : f_rcv F (.ref a :: av) h = F (.ref a :: av) h := of_eq rfl
theorem e_copy {sp dp : Int32} : op_copy k L (.int x :: .int dp :: .ref b :: .int sp :: .ref a :: S) h = g_if ((a_kd h a).1 = 1 ∧ (a_kd h b).1 = 1 ∧ a_lo h ≤ b ∧ ¬ x < 0 ∧ ¬ dp < 0 ∧ ¬ sp < 0 ∧ sp.toNatClampNeg + x.toNatClampNeg ≤ (a_kd h a).2 ∧ dp.toNatClampNeg + x.toNatClampNeg ≤ (a_kd h b).2 ∧ a ≠ b ∧ c_sum S ≤ 40) (w_cp a sp.toNatClampNeg b dp.toNatClampNeg x.toNatClampNeg k) op_stuck L S h := of_eq rfl
theorem e_throw : op_throw kx L (.ref a :: S) h = g_if (10 ≤ (a_kd h a).1 ∧ (a_kd h a).1 ≤ 28 ∧ a_lo h ≤ a) (w_kx kx a) op_stuck L S h := of_eq rfl
theorem e_iret : op_iret ty L [.int x] h = g_if (p_ok ty x = true) (w_fin (.inl (some (.int x)))) op_stuck L [] h := of_eq rfl
theorem e_lret : op_lret L [.long u] h = some (.inl (some (.long u)), h) := of_eq rfl
theorem e_aret : op_aret L [.ref a] h = some (.inl (some (.ref a)), h) := of_eq rfl
theorem e_aret0 : op_aret L [.null] h = some (.inl (some .null), h) := of_eq rfl
theorem e_vret : op_vret L [] h = some (.inl none, h) := of_eq rfl
theorem e_catch : kx_catch t k L a h = g_if ((a_kd h a).1 = t) k op_stuck L [.ref a] h := of_eq rfl
theorem e_out : kx_out L a h = some (.inr a, h) := of_eq rfl
theorem e_back : op_back (R := R) L S h = some (.inl (L, S, h)) := of_eq rfl
theorem e_exit : op_exit k L S h = (k L S h).map .inr := of_eq rfl
theorem e_kexit : kx_exit kx L a h = (kx L a h).map .inr := of_eq rfl
theorem e_m2i {f : Int32 → Int32 → Int32} : op_m2i f k L (.int y :: .int x :: S) h = g_if (c_sum S ≤ 8) (op_push (.int (f x y)) k) op_stuck L S h := of_eq rfl
theorem e_m2l {f : Int64 → Int64 → Int64} : op_m2l f k L (.long w :: .long u :: S) h = g_if (c_sum S ≤ 8) (op_push (.long (f u w)) k) op_stuck L S h := of_eq rfl
theorem e_m1l {f : Int64 → Int64} : op_m1l f k L (.long u :: S) h = g_if (c_sum S ≤ 8) (op_push (.long (f u)) k) op_stuck L S h := of_eq rfl
/-- stores -/
theorem e_csum0 : c_sum [] = 0 := of_eq rfl
theorem e_csum1 : c_sum (v :: S) = v.category + c_sum S := by simp [c_sum]
end EVS
