/-! The abstract heap: constants (lo, addresses of String constants, reference statics), kinds, fields by key and address (int, long, reference), arrays by address and place (int, long, reference), size, slots -/
def AH : Type := (Nat × (Nat → Nat) × (Nat → Option Nat)) × (Nat → Nat × Nat) × (Nat → Nat → Int32) × (Nat → Nat → Int64) × (Nat → Nat → Option Nat) × (Nat → Nat → Int32) × (Nat → Nat → Int64) × (Nat → Nat → Option Nat) × Nat × Nat
def a_mk (cs : Nat × (Nat → Nat) × (Nat → Option Nat)) (kd : Nat → Nat × Nat) (fi : Nat → Nat → Int32) (fl : Nat → Nat → Int64) (fr : Nat → Nat → Option Nat) (ai : Nat → Nat → Int32) (al : Nat → Nat → Int64) (ar : Nat → Nat → Option Nat) (sz sl : Nat) : AH := (cs, kd, fi, fl, fr, ai, al, ar, sz, sl)
def a_cs (h : AH) : Nat × (Nat → Nat) × (Nat → Option Nat) := Prod.fst h
def a_kd (h : AH) : Nat → Nat × Nat := Prod.fst (Prod.snd h)
def a_fi (h : AH) : Nat → Nat → Int32 := Prod.fst (Prod.snd (Prod.snd h))
def a_fl (h : AH) : Nat → Nat → Int64 := Prod.fst (Prod.snd (Prod.snd (Prod.snd h)))
def a_fr (h : AH) : Nat → Nat → Option Nat := Prod.fst (Prod.snd (Prod.snd (Prod.snd (Prod.snd h))))
def a_ai (h : AH) : Nat → Nat → Int32 := Prod.fst (Prod.snd (Prod.snd (Prod.snd (Prod.snd (Prod.snd h)))))
def a_al (h : AH) : Nat → Nat → Int64 := Prod.fst (Prod.snd (Prod.snd (Prod.snd (Prod.snd (Prod.snd (Prod.snd h))))))
def a_ar (h : AH) : Nat → Nat → Option Nat := Prod.fst (Prod.snd (Prod.snd (Prod.snd (Prod.snd (Prod.snd (Prod.snd (Prod.snd h)))))))
def a_sz (h : AH) : Nat := Prod.fst (Prod.snd (Prod.snd (Prod.snd (Prod.snd (Prod.snd (Prod.snd (Prod.snd (Prod.snd h))))))))
def a_sl (h : AH) : Nat := Prod.snd (Prod.snd (Prod.snd (Prod.snd (Prod.snd (Prod.snd (Prod.snd (Prod.snd (Prod.snd h))))))))
abbrev a_lo (h : AH) : Nat := (a_cs h).1
/-- one place of a table by two numbers -/
def u_2 {α : Type} (f : Nat → Nat → α) (k a : Nat) (v : α) : Nat → Nat → α := fun k' a' => if k' = k ∧ a' = a then v else f k' a'
/-- a whole column (second number) of a table -/
def z_2 {α : Type} (f : Nat → Nat → α) (a : Nat) (v : α) : Nat → Nat → α := fun k' a' => if a' = a then v else f k' a'
/-- a whole row (first number) of a table -/
def z_1 {α : Type} (f : Nat → Nat → α) (a : Nat) (v : α) : Nat → Nat → α := fun a' j => if a' = a then v else f a' j
def s_fi (h : AH) (k a : Nat) (v : Int32) : AH := a_mk (a_cs h) (a_kd h) (u_2 (a_fi h) k a v) (a_fl h) (a_fr h) (a_ai h) (a_al h) (a_ar h) (a_sz h) (a_sl h)
def s_fl (h : AH) (k a : Nat) (v : Int64) : AH := a_mk (a_cs h) (a_kd h) (a_fi h) (u_2 (a_fl h) k a v) (a_fr h) (a_ai h) (a_al h) (a_ar h) (a_sz h) (a_sl h)
def s_fr (h : AH) (k a : Nat) (v : Option Nat) : AH := a_mk (a_cs h) (a_kd h) (a_fi h) (a_fl h) (u_2 (a_fr h) k a v) (a_ai h) (a_al h) (a_ar h) (a_sz h) (a_sl h)
def s_ai (h : AH) (a j : Nat) (v : Int32) : AH := a_mk (a_cs h) (a_kd h) (a_fi h) (a_fl h) (a_fr h) (u_2 (a_ai h) a j v) (a_al h) (a_ar h) (a_sz h) (a_sl h)
def s_al (h : AH) (a j : Nat) (v : Int64) : AH := a_mk (a_cs h) (a_kd h) (a_fi h) (a_fl h) (a_fr h) (a_ai h) (u_2 (a_al h) a j v) (a_ar h) (a_sz h) (a_sl h)
def s_ar (h : AH) (a j : Nat) (v : Option Nat) : AH := a_mk (a_cs h) (a_kd h) (a_fi h) (a_fl h) (a_fr h) (a_ai h) (a_al h) (u_2 (a_ar h) a j v) (a_sz h) (a_sl h)
/-- a run of places of an int array -/
def s_cp (h : AH) (a sp b dp n : Nat) : AH := a_mk (a_cs h) (a_kd h) (a_fi h) (a_fl h) (a_fr h) (fun x j => if x = b ∧ dp ≤ j ∧ j < dp + n then a_ai h a (sp + (j - dp)) else a_ai h x j) (a_al h) (a_ar h) (a_sz h) (a_sl h)
/-- a new cell of kind t -/
def n_cell (h : AH) (t : Nat × Nat) (n : Nat) : AH := a_mk (a_cs h) (fun a => if a = a_sz h then t else a_kd h a) (z_2 (a_fi h) (a_sz h) 0) (z_2 (a_fl h) (a_sz h) 0) (z_2 (a_fr h) (a_sz h) none) (z_1 (a_ai h) (a_sz h) 0) (z_1 (a_al h) (a_sz h) 0) (z_1 (a_ar h) (a_sz h) none) (a_sz h + 1) (a_sl h + n)
abbrev LL : Type := List (Option Value)
abbrev SS : Type := List Value
abbrev KK (R : Type) : Type := LL → SS → AH → Option R
abbrev OO : Type := (Option Value ⊕ Nat) × AH
abbrev FF : Type := List Value → AH → Option OO
abbrev KX (R : Type) : Type := LL → Nat → AH → Option R
/-- a local is stored: a long that it cuts is gone -/
def l_clr (L : LL) : Nat → LL
  | 0 => L
  | j + 1 => match L[j]? with
    | some (some (.long _)) => L.set j none
    | some (some (.double _)) => L.set j none
    | _ => L
def l_st1 (L : LL) (i : Nat) (v : Value) : LL := (l_clr L i).set i (some v)
def l_st2 (L : LL) (i : Nat) (v : Value) : LL := ((l_clr L i).set (i + 1) none).set i (some v)
def c_sum (S : SS) : Nat := (S.map fun v => v.category).sum
/-- an int as it lies in a field or comes back, of a narrow type -/
def p_ok : FieldType → Int32 → Bool
  | .int, _ => true
  | .boolean, x => x == 0 || x == 1
  | .byte, x => x.toInt8.toInt32 == x
  | .char, x => (x.toUInt32 % 65536).toInt32 == x
  | _, _ => false
def b_in (i : Int32) (n : Nat) : Bool := !(decide (i < 0) || decide (n ≤ i.toNatClampNeg))
/-- the locals at a method's entry -/
def l_args : List Value → LL
  | [] => []
  | v :: vs => if v.category = 2 then some v :: none :: l_args vs else some v :: l_args vs
def l_ent (av : List Value) (n : Nat) : LL := l_args av ++ List.replicate (n - (l_args av).length) none
section OPS
variable {R : Type}
def op_push (v : Value) (k : KK R) : KK R := fun L S h => k L (v :: S) h
def op_ild (i : Nat) (k : KK R) : KK R := fun L S h => match L[i]? with
  | some (some (.int x)) => k L (.int x :: S) h
  | _ => none
def op_lld (i : Nat) (k : KK R) : KK R := fun L S h => match L[i]? with
  | some (some (.long x)) => k L (.long x :: S) h
  | _ => none
def op_ald (i : Nat) (k : KK R) : KK R := fun L S h => match L[i]? with
  | some (some (.ref x)) => k L (.ref x :: S) h
  | some (some .null) => k L (.null :: S) h
  | _ => none
def op_ist (i : Nat) (k : KK R) : KK R := fun L S h => match S with
  | .int x :: S' => k (l_st1 L i (.int x)) S' h
  | _ => none
def op_lst (i : Nat) (k : KK R) : KK R := fun L S h => match S with
  | .long x :: S' => k (l_st2 L i (.long x)) S' h
  | _ => none
def op_ast (i : Nat) (k : KK R) : KK R := fun L S h => match S with
  | .ref x :: S' => k (l_st1 L i (.ref x)) S' h
  | .null :: S' => k (l_st1 L i .null) S' h
  | _ => none
def op_iinc (i : Nat) (n : Int32) (k : KK R) : KK R := fun L S h => match L[i]? with
  | some (some (.int x)) => k (l_st1 L i (.int (x + n))) S h
  | _ => none
/-- two ints make an int -/
def op_i2 (f : Int32 → Int32 → Int32) (k : KK R) : KK R := fun L S h => match S with
  | .int y :: .int x :: S' => k L (.int (f x y) :: S') h
  | _ => none
/-- the same, the second not 0 -/
def op_i2d (f : Int32 → Int32 → Int32) (k : KK R) : KK R := fun L S h => match S with
  | .int y :: .int x :: S' => if y = 0 then none else k L (.int (f x y) :: S') h
  | _ => none
def op_i1 (f : Int32 → Int32) (k : KK R) : KK R := fun L S h => match S with
  | .int x :: S' => k L (.int (f x) :: S') h
  | _ => none
def op_l1 (f : Int64 → Int64) (k : KK R) : KK R := fun L S h => match S with
  | .long x :: S' => k L (.long (f x) :: S') h
  | _ => none
def op_l2 (f : Int64 → Int64 → Int64) (k : KK R) : KK R := fun L S h => match S with
  | .long y :: .long x :: S' => k L (.long (f x y) :: S') h
  | _ => none
def op_l2d (f : Int64 → Int64 → Int64) (k : KK R) : KK R := fun L S h => match S with
  | .long y :: .long x :: S' => if y = 0 then none else k L (.long (f x y) :: S') h
  | _ => none
/-- a long shifted by an int -/
def op_li (f : Int64 → Int32 → Int64) (k : KK R) : KK R := fun L S h => match S with
  | .int y :: .long x :: S' => k L (.long (f x y) :: S') h
  | _ => none
def op_i2l (k : KK R) : KK R := fun L S h => match S with
  | .int x :: S' => k L (.long x.toInt64 :: S') h
  | _ => none
def op_l2i (k : KK R) : KK R := fun L S h => match S with
  | .long x :: S' => k L (.int x.toInt32 :: S') h
  | _ => none
def op_lcmp (k : KK R) : KK R := fun L S h => match S with
  | .long y :: .long x :: S' => k L (.int (lg_cmp x y) :: S') h
  | _ => none
def op_dup (k : KK R) : KK R := fun L S h => match S with
  | v :: S' => if v.category = 1 then k L (v :: v :: S') h else none
  | _ => none
def op_pop (k : KK R) : KK R := fun L S h => match S with
  | v :: S' => if v.category = 1 then k L S' h else none
  | _ => none
def op_dup2 (k : KK R) : KK R := fun L S h => match S with
  | v :: w :: S' => if v.category = 1 ∧ w.category = 1 then k L (v :: w :: v :: w :: S') h else none
  | _ => none
def op_ieq (k1 k2 : KK R) : KK R := fun L S h => match S with
  | .int x :: S' => if x = 0 then k1 L S' h else k2 L S' h
  | _ => none
def op_ine (k1 k2 : KK R) : KK R := fun L S h => match S with
  | .int x :: S' => if x = 0 then k2 L S' h else k1 L S' h
  | _ => none
def op_ilt (k1 k2 : KK R) : KK R := fun L S h => match S with
  | .int x :: S' => if x < 0 then k1 L S' h else k2 L S' h
  | _ => none
def op_ige (k1 k2 : KK R) : KK R := fun L S h => match S with
  | .int x :: S' => if 0 ≤ x then k1 L S' h else k2 L S' h
  | _ => none
def op_igt (k1 k2 : KK R) : KK R := fun L S h => match S with
  | .int x :: S' => if 0 < x then k1 L S' h else k2 L S' h
  | _ => none
def op_ile (k1 k2 : KK R) : KK R := fun L S h => match S with
  | .int x :: S' => if x ≤ 0 then k1 L S' h else k2 L S' h
  | _ => none
def op_ceq (k1 k2 : KK R) : KK R := fun L S h => match S with
  | .int y :: .int x :: S' => if x = y then k1 L S' h else k2 L S' h
  | _ => none
def op_cne (k1 k2 : KK R) : KK R := fun L S h => match S with
  | .int y :: .int x :: S' => if x = y then k2 L S' h else k1 L S' h
  | _ => none
def op_clt (k1 k2 : KK R) : KK R := fun L S h => match S with
  | .int y :: .int x :: S' => if x < y then k1 L S' h else k2 L S' h
  | _ => none
def op_cge (k1 k2 : KK R) : KK R := fun L S h => match S with
  | .int y :: .int x :: S' => if y ≤ x then k1 L S' h else k2 L S' h
  | _ => none
def op_cgt (k1 k2 : KK R) : KK R := fun L S h => match S with
  | .int y :: .int x :: S' => if y < x then k1 L S' h else k2 L S' h
  | _ => none
def op_cle (k1 k2 : KK R) : KK R := fun L S h => match S with
  | .int y :: .int x :: S' => if x ≤ y then k1 L S' h else k2 L S' h
  | _ => none
def op_ifn (k1 k2 : KK R) : KK R := fun L S h => match S with
  | .null :: S' => k1 L S' h
  | .ref _ :: S' => k2 L S' h
  | _ => none
def op_ifnn (k1 k2 : KK R) : KK R := fun L S h => match S with
  | .null :: S' => k2 L S' h
  | .ref _ :: S' => k1 L S' h
  | _ => none
def v_rf? : Value → Option (Option Nat)
  | .null => some none
  | .ref a => some (some a)
  | _ => none
def op_aeq (k1 k2 : KK R) : KK R := fun L S h => match S with
  | y :: x :: S' => match v_rf? x, v_rf? y with
    | some p, some q => if p = q then k1 L S' h else k2 L S' h
    | _, _ => none
  | _ => none
def op_ane (k1 k2 : KK R) : KK R := op_aeq k2 k1
/-- a switch: the first case that fits -/
def sw_to {α : Type} (x : Int32) : List (Int32 × α) → α → α
  | [], d => d
  | c :: cs, d => if x = c.1 then c.2 else sw_to x cs d
def op_sw (cs : List (Int32 × KK R)) (d : KK R) : KK R := fun L S h => match S with
  | .int x :: S' => (sw_to x cs d) L S' h
  | _ => none
/-- fields: the receiver's kind is one of those named -/
def op_gfi (cs : List Nat) (key : Nat) (k : KK R) : KK R := fun L S h => match S with
  | .ref a :: S' => if (a_kd h a).1 ∈ cs then k L (.int (a_fi h key a) :: S') h else none
  | _ => none
def op_gfl (cs : List Nat) (key : Nat) (k : KK R) : KK R := fun L S h => match S with
  | .ref a :: S' => if (a_kd h a).1 ∈ cs then k L (.long (a_fl h key a) :: S') h else none
  | _ => none
def op_gfr (cs : List Nat) (key : Nat) (k : KK R) : KK R := fun L S h => match S with
  | .ref a :: S' => if (a_kd h a).1 ∈ cs then k L (va_rf (a_fr h key a) :: S') h else none
  | _ => none
def op_pfi (ty : FieldType) (cs : List Nat) (key : Nat) (k : KK R) : KK R := fun L S h => match S with
  | .int x :: .ref a :: S' => if (a_kd h a).1 ∈ cs ∧ a_lo h ≤ a ∧ p_ok ty x = true then k L S' (s_fi h key a x) else none
  | _ => none
def op_pfl (cs : List Nat) (key : Nat) (k : KK R) : KK R := fun L S h => match S with
  | .long x :: .ref a :: S' => if (a_kd h a).1 ∈ cs ∧ a_lo h ≤ a then k L S' (s_fl h key a x) else none
  | _ => none
def op_pfr (cs : List Nat) (key : Nat) (k : KK R) : KK R := fun L S h => match S with
  | v :: .ref a :: S' => if (a_kd h a).1 ∈ cs ∧ a_lo h ≤ a then (match v_rf? v with
    | some r => k L S' (s_fr h key a r)
    | none => none) else none
  | _ => none
/-- arrays; t: 1 int, 2 byte, 3 char, 4 boolean, 5 long, 6.. references -/
def op_iald (t : Nat) (k : KK R) : KK R := fun L S h => match S with
  | .int i :: .ref a :: S' => if ((a_kd h a).1 = t ∨ (a_kd h a).1 = t + 30) ∧ b_in i (a_kd h a).2 = true then k L (.int (a_ai h a i.toNatClampNeg) :: S') h else none
  | _ => none
def op_lald (k : KK R) : KK R := fun L S h => match S with
  | .int i :: .ref a :: S' => if (a_kd h a).1 = 5 ∧ b_in i (a_kd h a).2 = true then k L (.long (a_al h a i.toNatClampNeg) :: S') h else none
  | _ => none
def op_aald (t : Nat) (k : KK R) : KK R := fun L S h => match S with
  | .int i :: .ref a :: S' => if (a_kd h a).1 = t ∧ b_in i (a_kd h a).2 = true then k L (va_rf (a_ar h a i.toNatClampNeg) :: S') h else none
  | _ => none
def op_iast (t : Nat) (ty : FieldType) (k : KK R) : KK R := fun L S h => match S with
  | .int x :: .int i :: .ref a :: S' => if (a_kd h a).1 = t ∧ b_in i (a_kd h a).2 = true ∧ a_lo h ≤ a then k L S' (s_ai h a i.toNatClampNeg (vp_nar ty x)) else none
  | _ => none
def op_last (k : KK R) : KK R := fun L S h => match S with
  | .long x :: .int i :: .ref a :: S' => if (a_kd h a).1 = 5 ∧ b_in i (a_kd h a).2 = true ∧ a_lo h ≤ a then k L S' (s_al h a i.toNatClampNeg x) else none
  | _ => none
def op_aast (t : Nat) (cs : List Nat) (k : KK R) : KK R := fun L S h => match S with
  | .ref v :: .int i :: .ref a :: S' => if (a_kd h a).1 = t ∧ b_in i (a_kd h a).2 = true ∧ a_lo h ≤ a ∧ (a_kd h v).1 ∈ cs then k L S' (s_ar h a i.toNatClampNeg (some v)) else none
  | _ => none
def op_alen (k : KK R) : KK R := fun L S h => match S with
  | .ref a :: S' => if (1 ≤ (a_kd h a).1 ∧ (a_kd h a).1 ≤ 8) ∨ (31 ≤ (a_kd h a).1 ∧ (a_kd h a).1 ≤ 34) then k L (.int (Int32.ofNat (a_kd h a).2) :: S') h else none
  | _ => none
def op_newa (t : Nat) (k : KK R) : KK R := fun L S h => match S with
  | .int n :: S' => if n < 0 ∨ 536870912 < n.toNatClampNeg * 8 then none else k L (.ref (a_sz h) :: S') (n_cell h (t, n.toNatClampNeg) n.toNatClampNeg)
  | _ => none
def op_new (ci n : Nat) (k : KK R) : KK R := fun L S h => k L (.ref (a_sz h) :: S) (n_cell h (ci + 10, 0) n)
def op_mk0 (k : KK R) : KK R := fun L S h => if c_sum S ≤ 8 then k L (.ref (a_sz h) :: S) (n_cell h (28, 0) 6) else none
def op_oinit (k : KK R) : KK R := fun L S h => match S with
  | .ref _ :: S' => if c_sum S' ≤ 40 then k L S' h else none
  | _ => none
def op_ldcs (i : Nat) (k : KK R) : KK R := fun L S h => k L (.ref ((a_cs h).2.1 i) :: S) h
def op_gst (i : Nat) (k : KK R) : KK R := fun L S h => k L (va_rf ((a_cs h).2.2 i) :: S) h
def op_cast (cs : List Nat) (k : KK R) : KK R := fun L S h => match S with
  | .ref a :: S' => if (a_kd h a).1 ∈ cs then k L (.ref a :: S') h else none
  | .null :: S' => k L (.null :: S') h
  | _ => none
def op_inst (yes no : List Nat) (k : KK R) : KK R := fun L S h => match S with
  | .ref a :: S' => if (a_kd h a).1 ∈ yes then k L (.int 1 :: S') h else if (a_kd h a).1 ∈ no then k L (.int 0 :: S') h else none
  | .null :: S' => k L (.int 0 :: S') h
  | _ => none
def op_call (n : Nat) (F : FF) (kx : KX R) (k : KK R) : KK R := fun L S h =>
  if n ≤ S.length ∧ c_sum (S.drop n) ≤ 8 then match F (S.take n).reverse h with
    | some (.inl (some v), h') => k L (v :: S.drop n) h'
    | some (.inl none, h') => k L (S.drop n) h'
    | some (.inr q, h') => kx L q h'
    | none => none
  else none
/-- by the receiver's kind -/
def f_disp (tb : List (Nat × FF)) : FF := fun av h => match av with
  | .ref a :: _ => match tb.find? (fun c => (a_kd h a).1 == c.1) with
    | some c => c.2 av h
    | none => none
  | _ => none
def op_copy (k : KK R) : KK R := fun L S h => match S with
  | .int n :: .int dp :: .ref b :: .int sp :: .ref a :: S' => if (a_kd h a).1 = 1 ∧ (a_kd h b).1 = 1 ∧ a_lo h ≤ b ∧ ¬ n < 0 ∧ ¬ dp < 0 ∧ ¬ sp < 0 ∧ sp.toNatClampNeg + n.toNatClampNeg ≤ (a_kd h a).2 ∧ dp.toNatClampNeg + n.toNatClampNeg ≤ (a_kd h b).2 ∧ a ≠ b ∧ c_sum S' ≤ 40 then k L S' (s_cp h a sp.toNatClampNeg b dp.toNatClampNeg n.toNatClampNeg) else none
  | _ => none
def op_throw (kx : KX R) : KK R := fun L S h => match S with
  | .ref q :: _ => if 10 ≤ (a_kd h q).1 ∧ (a_kd h q).1 ≤ 28 ∧ a_lo h ≤ q then kx L q h else none
  | _ => none
def op_stuck : KK R := fun _ _ _ => none
def kx_no : KX R := fun _ _ _ => none
def op_iret (ty : FieldType) : KK OO := fun _ S h => match S with
  | [.int v] => if p_ok ty v = true then some (.inl (some (.int v)), h) else none
  | _ => none
def op_lret : KK OO := fun _ S h => match S with
  | [.long v] => some (.inl (some (.long v)), h)
  | _ => none
def op_aret : KK OO := fun _ S h => match S with
  | [.ref v] => some (.inl (some (.ref v)), h)
  | [.null] => some (.inl (some .null), h)
  | _ => none
def op_vret : KK OO := fun _ S h => match S with
  | [] => some (.inl none, h)
  | _ => none
/-- caught: the handler goes on with the locals -/
def kx_catch (t : Nat) (k : KK R) : KX R := fun L q h => if (a_kd h q).1 = t then k L [.ref q] h else none
def kx_out : KX OO := fun _ q h => some (.inr q, h)
/-- a loop: by its body, that answers with a next state or an end -/
def lp_n {σ ρ : Type} (body : σ → Option (σ ⊕ ρ)) : Nat → σ → Option ρ
  | 0, _ => none
  | n + 1, s => match body s with
    | some (.inl s') => lp_n body n s'
    | some (.inr r) => some r
    | none => none
noncomputable def lp_w {σ ρ : Type} (body : σ → Option (σ ⊕ ρ)) (s : σ) : Option ρ :=
  @dite (Option ρ) (∃ r, ∃ n, lp_n body n s = some r) (Classical.propDecidable _) (fun h => some (Classical.choose h)) (fun _ => none)
theorem lp_n_succ {σ ρ : Type} {body : σ → Option (σ ⊕ ρ)} : ∀ (n : Nat) (s : σ) (r : ρ), lp_n body n s = some r → lp_n body (n + 1) s = some r
  | 0, _, _, h => by cases h
  | n + 1, s, r, h => by
    unfold lp_n at h ⊢
    cases hb : body s with
    | none => rw [hb] at h; cases h
    | some x =>
      rw [hb] at h
      cases x with
      | inl s' => exact lp_n_succ n s' r h
      | inr r' => exact h
theorem lp_n_le {σ ρ : Type} {body : σ → Option (σ ⊕ ρ)} {n m : Nat} {s : σ} {r : ρ} (hnm : n ≤ m) (h : lp_n body n s = some r) : lp_n body m s = some r := by
  induction hnm with
  | refl => exact h
  | step _ ih => exact lp_n_succ _ _ _ ih
theorem lp_n_det {σ ρ : Type} {body : σ → Option (σ ⊕ ρ)} {n m : Nat} {s : σ} {r r' : ρ} (h : lp_n body n s = some r) (h' : lp_n body m s = some r') : r = r' := by
  have h1 := lp_n_le (Nat.le_max_left n m) h
  have h2 := lp_n_le (Nat.le_max_right n m) h'
  exact Option.some.inj (h1.symm.trans h2)
theorem lp_w_iff {σ ρ : Type} {body : σ → Option (σ ⊕ ρ)} {s : σ} {r : ρ} : lp_w body s = some r ↔ ∃ n, lp_n body n s = some r := by
  unfold lp_w
  by_cases h : ∃ r, ∃ n, lp_n body n s = some r
  · rw [dif_pos h]
    constructor
    · intro e
      cases e
      exact Classical.choose_spec h
    · rintro ⟨n, hn⟩
      obtain ⟨m, hm⟩ := Classical.choose_spec h
      rw [lp_n_det hm hn]
  · rw [dif_neg h]
    constructor
    · intro e; cases e
    · rintro ⟨n, hn⟩
      exact absurd ⟨r, n, hn⟩ h
/-- a loop is its body, then the loop -/
theorem lp_w_eq {σ ρ : Type} (body : σ → Option (σ ⊕ ρ)) (s : σ) : lp_w body s = (match body s with
    | some (.inl s') => lp_w body s'
    | some (.inr r) => some r
    | none => none) := by
  apply Option.ext
  intro r
  rw [lp_w_iff]
  constructor
  · rintro ⟨n, hn⟩
    cases n with
    | zero => cases hn
    | succ n =>
      unfold lp_n at hn
      cases hb : body s with
      | none => rw [hb] at hn; cases hn
      | some x =>
        rw [hb] at hn
        cases x with
        | inl s' => exact lp_w_iff.mpr ⟨n, hn⟩
        | inr r' => exact hn
  · intro h
    cases hb : body s with
    | none => rw [hb] at h; cases h
    | some x =>
      rw [hb] at h
      cases x with
      | inl s' =>
        obtain ⟨n, hn⟩ := lp_w_iff.mp h
        exact ⟨n + 1, by unfold lp_n; rw [hb]; exact hn⟩
      | inr r' => exact ⟨1, by unfold lp_n; rw [hb]; exact h⟩
/-- a loop whose measure falls ends, and ends well -/
theorem lp_w_run {σ ρ : Type} (body : σ → Option (σ ⊕ ρ)) (I : σ → Prop) (P : ρ → Prop) (μ : σ → Nat)
    (hs : ∀ s, I s → (∃ s', body s = some (.inl s') ∧ I s' ∧ μ s' < μ s) ∨ ∃ r, body s = some (.inr r) ∧ P r) : ∀ s, I s → ∃ r, lp_w body s = some r ∧ P r := by
  have key : ∀ (n : Nat) (s : σ), μ s < n → I s → ∃ r, lp_w body s = some r ∧ P r := by
    intro n
    induction n with
    | zero => intro s h; exact absurd h (Nat.not_lt_zero _)
    | succ n ih =>
      intro s hn hI
      rw [lp_w_eq]
      rcases hs s hI with ⟨s', hb, hI', hm⟩ | ⟨r, hb, hP⟩
      · rw [hb]
        exact ih s' (by omega) hI'
      · rw [hb]
        exact ⟨r, rfl, hP⟩
  exact fun s hI => key (μ s + 1) s (Nat.lt_succ_self _) hI
abbrev L_S : Type := LL × SS × AH
noncomputable def op_loop (B : KK (L_S ⊕ R)) : KK R := fun L S h => lp_w (fun s : L_S => B s.1 s.2.1 s.2.2) (L, S, h)
def op_back : KK (L_S ⊕ R) := fun L S h => some (.inl (L, S, h))
def op_exit (k : KK R) : KK (L_S ⊕ R) := fun L S h => (k L S h).map .inr
def kx_exit (k : KX R) : KX (L_S ⊕ R) := fun L q h => (k L q h).map .inr
end OPS
