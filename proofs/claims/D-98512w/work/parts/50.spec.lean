/-! THE PLAIN LAW, part 1: a kitchen as numbers; what a pull comes to -/
abbrev KN : Type := Nat → Nat → Nat → Nat
abbrev kBends (K : KN) : Nat := K 0 0 0
abbrev kTough (K : KN) : Nat := K 1 0 0
abbrev kJerk (K : KN) : Nat := K 2 0 0
abbrev kThumb (K : KN) : Nat := K 3 0 0
abbrev kFlaw (K : KN) : Nat := K 4 0 0
abbrev kNb (K : KN) : Nat := K 5 0 0
abbrev kNp (K : KN) : Nat := K 6 0 0
abbrev kFors (K : KN) : Nat := K 7 0 0
abbrev kWons (K : KN) : Nat := K 8 0 0
abbrev kPieces (K : KN) : Nat := K 9 0 0
abbrev kKind (K : KN) (b : Nat) : Nat := K 11 b 0
abbrev kDry (K : KN) (b : Nat) : Nat := K 12 b 0
abbrev kSize (K : KN) (b arm : Nat) : Nat := K 13 b arm
abbrev kThick (K : KN) (b arm j : Nat) : Nat := K (14 + arm) b j
abbrev kIs (K : KN) (p : Nat) : Nat := K 16 p 0
abbrev kForce (K : KN) (p : Nat) : Nat := K 17 p 0
abbrev kHold (K : KN) (p : Nat) : Nat := K 18 p 0
abbrev kWish (K : KN) (p : Nat) : Nat := K 19 p 0
abbrev kFor (K : KN) (p q : Nat) : Nat := K 20 p q
abbrev kTold (K : KN) (p q : Nat) : Nat := K 21 p q
abbrev kWin (K : KN) (i : Nat) : Nat := K 22 i 0
abbrev kLos (K : KN) (i : Nat) : Nat := K 23 i 0
abbrev kSide (K : KN) (i : Nat) : Nat := K 24 i 0
abbrev kPArm (K : KN) (i : Nat) : Nat := K 25 i 0
abbrev kPAt (K : KN) (i : Nat) : Nat := K 26 i 0
/-- 0: no cheat told; n + 1: so often -/
abbrev kCheat (K : KN) (p : Nat) : Nat := K 27 p 0
abbrev kByT (K : KN) (p : Nat) : Nat := K 28 p 0
abbrev kByF (K : KN) (p : Nat) : Nat := K 29 p 0
def W_b (K : KN) (b : Nat) : Prop :=
  (kKind K b ≤ 2) ∧
  (kDry K b ≤ 24) ∧
  (∀ arm, arm < 2 → 2 ≤ kSize K b arm ∧ kSize K b arm ≤ 6) ∧
  (∀ arm, arm < 2 → ∀ j, j < kSize K b arm → 1 ≤ kThick K b arm j ∧ kThick K b arm j ≤ 9)
theorem W_b_kind {K : KN} {b : Nat} (q : W_b K b) : kKind K b ≤ 2 := q.1
theorem W_b_dry {K : KN} {b : Nat} (q : W_b K b) : kDry K b ≤ 24 := q.2.1
theorem W_b_size {K : KN} {b : Nat} (q : W_b K b) : ∀ arm, arm < 2 → 2 ≤ kSize K b arm ∧ kSize K b arm ≤ 6 := q.2.2.1
theorem W_b_thick {K : KN} {b : Nat} (q : W_b K b) : ∀ arm, arm < 2 → ∀ j, j < kSize K b arm → 1 ≤ kThick K b arm j ∧ kThick K b arm j ≤ 9 := q.2.2.2
def W_p (K : KN) (p : Nat) : Prop :=
  (kIs K p ≤ 3) ∧
  (1 ≤ kForce K p ∧ kForce K p ≤ 40) ∧
  (1 ≤ kHold K p ∧ kHold K p ≤ 6) ∧
  (kWish K p ≤ 99) ∧
  (kCheat K p ≤ 100) ∧
  (kCheat K p ≠ 0 → 1 ≤ kByT K p ∧ kByT K p ≤ 9) ∧
  (kCheat K p ≠ 0 → 1 ≤ kByF K p ∧ kByF K p ≤ 9) ∧
  (∀ q, kFor K p q ≤ 99) ∧
  (∀ q, kNp K ≤ q → kFor K p q = 0)
theorem W_p_is {K : KN} {p : Nat} (q : W_p K p) : kIs K p ≤ 3 := q.1
theorem W_p_force {K : KN} {p : Nat} (q : W_p K p) : 1 ≤ kForce K p ∧ kForce K p ≤ 40 := q.2.1
theorem W_p_hold {K : KN} {p : Nat} (q : W_p K p) : 1 ≤ kHold K p ∧ kHold K p ≤ 6 := q.2.2.1
theorem W_p_wish {K : KN} {p : Nat} (q : W_p K p) : kWish K p ≤ 99 := q.2.2.2.1
theorem W_p_cheat {K : KN} {p : Nat} (q : W_p K p) : kCheat K p ≤ 100 := q.2.2.2.2.1
theorem W_p_byt {K : KN} {p : Nat} (q : W_p K p) : kCheat K p ≠ 0 → 1 ≤ kByT K p ∧ kByT K p ≤ 9 := q.2.2.2.2.2.1
theorem W_p_byf {K : KN} {p : Nat} (q : W_p K p) : kCheat K p ≠ 0 → 1 ≤ kByF K p ∧ kByF K p ≤ 9 := q.2.2.2.2.2.2.1
theorem W_p_fors {K : KN} {p : Nat} (q : W_p K p) : ∀ q, kFor K p q ≤ 99 := q.2.2.2.2.2.2.2.1
theorem W_p_for0 {K : KN} {p : Nat} (q : W_p K p) : ∀ q, kNp K ≤ q → kFor K p q = 0 := q.2.2.2.2.2.2.2.2
/-- a kitchen that was read whole -/
def K_wf (K : KN) : Prop :=
  (kBends K ≤ 9) ∧
  (25 ≤ kTough K ∧ kTough K ≤ 60) ∧
  (kJerk K ≤ 99) ∧
  (kThumb K ≤ 99) ∧
  (kFlaw K ≤ 99) ∧
  (1 ≤ kNb K ∧ kNb K ≤ 5) ∧
  (2 ≤ kNp K ∧ kNp K ≤ 6) ∧
  (kFors K ≤ 10) ∧
  (kWons K ≤ 12) ∧
  (kPieces K ≤ 4) ∧
  (∀ b, b < kNb K → W_b K b) ∧
  (∀ p, p < kNp K → W_p K p) ∧
  (∀ i, i < kWons K → kWin K i < kNp K ∧ kLos K i < kNp K ∧ kWin K i ≠ kLos K i ∧ kSide K i < 2) ∧
  (∀ i, i < kPieces K → kPArm K i < 2 ∧ kPAt K i < 6)
theorem K_wf_bends {K : KN} (q : K_wf K) : kBends K ≤ 9 := q.1
theorem K_wf_tough {K : KN} (q : K_wf K) : 25 ≤ kTough K ∧ kTough K ≤ 60 := q.2.1
theorem K_wf_jerk {K : KN} (q : K_wf K) : kJerk K ≤ 99 := q.2.2.1
theorem K_wf_thumb {K : KN} (q : K_wf K) : kThumb K ≤ 99 := q.2.2.2.1
theorem K_wf_flaw {K : KN} (q : K_wf K) : kFlaw K ≤ 99 := q.2.2.2.2.1
theorem K_wf_nb {K : KN} (q : K_wf K) : 1 ≤ kNb K ∧ kNb K ≤ 5 := q.2.2.2.2.2.1
theorem K_wf_np {K : KN} (q : K_wf K) : 2 ≤ kNp K ∧ kNp K ≤ 6 := q.2.2.2.2.2.2.1
theorem K_wf_fors {K : KN} (q : K_wf K) : kFors K ≤ 10 := q.2.2.2.2.2.2.2.1
theorem K_wf_wons {K : KN} (q : K_wf K) : kWons K ≤ 12 := q.2.2.2.2.2.2.2.2.1
theorem K_wf_pieces {K : KN} (q : K_wf K) : kPieces K ≤ 4 := q.2.2.2.2.2.2.2.2.2.1
theorem K_wf_b {K : KN} (q : K_wf K) : ∀ b, b < kNb K → W_b K b := q.2.2.2.2.2.2.2.2.2.2.1
theorem K_wf_p {K : KN} (q : K_wf K) : ∀ p, p < kNp K → W_p K p := q.2.2.2.2.2.2.2.2.2.2.2.1
theorem K_wf_won {K : KN} (q : K_wf K) : ∀ i, i < kWons K → kWin K i < kNp K ∧ kLos K i < kNp K ∧ kWin K i ≠ kLos K i ∧ kSide K i < 2 := q.2.2.2.2.2.2.2.2.2.2.2.2.1
theorem K_wf_piece {K : KN} (q : K_wf K) : ∀ i, i < kPieces K → kPArm K i < 2 ∧ kPAt K i < 6 := q.2.2.2.2.2.2.2.2.2.2.2.2.2
/-- a pull: bone, days, rubber or not (PN 0..2), people (3 + a), holds (5 + a), who moves (7 + a) -/
abbrev PN : Type := Nat → Nat
abbrev pB (p : PN) : Nat := p 0
abbrev pD (p : PN) : Nat := p 1
abbrev pR (p : PN) : Nat := p 2
abbrev pW (p : PN) (a : Nat) : Nat := p (3 + a)
abbrev pH (p : PN) (a : Nat) : Nat := p (5 + a)
abbrev pM (p : PN) (a : Nat) : Nat := p (7 + a)
def p_mk (b d r w0 w1 h0 h1 m0 m1 : Nat) : PN := fun i => match i with | 0 => b | 1 => d | 2 => r | 3 => w0 | 4 => w1 | 5 => h0 | 6 => h1 | 7 => m0 | _ => m1
def P_wf (K : KN) (p : PN) : Prop :=
  (K_wf K) ∧
  (pB p < kNb K) ∧
  (pD p ≤ 24) ∧
  (∀ a, a < 2 → pW p a < kNp K) ∧
  (∀ a, a < 2 → pH p a ≤ 6)
theorem P_wf_K {K : KN} {p : PN} (q : P_wf K p) : K_wf K := q.1
theorem P_wf_b {K : KN} {p : PN} (q : P_wf K p) : pB p < kNb K := q.2.1
theorem P_wf_d {K : KN} {p : PN} (q : P_wf K p) : pD p ≤ 24 := q.2.2.1
theorem P_wf_w {K : KN} {p : PN} (q : P_wf K p) : ∀ a, a < 2 → pW p a < kNp K := q.2.2.2.1
theorem P_wf_h {K : KN} {p : PN} (q : P_wf K p) : ∀ a, a < 2 → pH p a ≤ 6 := q.2.2.2.2
/-- a flaw: arm and place -/
abbrev FW : Type := Option (Nat × Nat)
/-- what an arm bears at a place -/
def sStr (K : KN) (p : PN) (f : FW) (w arm j : Nat) : Nat :=
  if f = some (arm, j) then (kThick K (pB p) arm j * (kTough K - pD p) + (if j < 2 ∧ kIs K w = 3 then kThumb K else 0)) / 2 else kThick K (pB p) arm j * (kTough K - pD p) + (if j < 2 ∧ kIs K w = 3 then kThumb K else 0)
/-- what it is strained by -/
def sStrain (K : KN) (p : PN) (arm j : Nat) : Nat :=
  if pH p arm ≤ j then 0 else (kForce K (pW p 0) + kForce K (pW p 1)) * (pH p arm - j) + (if pM p arm = 1 then kJerk K else 0)
theorem sStr_le {K : KN} {p : PN} {f : FW} {w arm j : Nat} (hP : P_wf K p) (ha : arm < 2) (hj : j < kSize K (pB p) arm) : sStr K p f w arm j ≤ 639 := by
  have h1 := ((K_wf_b (P_wf_K hP) _ (P_wf_b hP)).2.2.2 arm ha j hj).2
  have h2 := (K_wf_tough (P_wf_K hP)).2
  have h3 := K_wf_thumb (P_wf_K hP)
  have hmul : kThick K (pB p) arm j * (kTough K - pD p) ≤ 9 * 60 := Nat.mul_le_mul h1 (by omega)
  unfold sStr
  split <;> split <;> omega
theorem sStrain_le {K : KN} {p : PN} {arm j : Nat} (hP : P_wf K p) (ha : arm < 2) : sStrain K p arm j ≤ 579 := by
  have h1 := W_p_force (K_wf_p (P_wf_K hP) _ (P_wf_w hP 0 (by decide)))
  have h2 := W_p_force (K_wf_p (P_wf_K hP) _ (P_wf_w hP 1 (by decide)))
  have h3 := K_wf_jerk (P_wf_K hP)
  have h4 := P_wf_h hP arm ha
  have hmul : (kForce K (pW p 0) + kForce K (pW p 1)) * (pH p arm - j) ≤ 80 * 6 := Nat.mul_le_mul (by omega) (by omega)
  unfold sStrain
  split
  · omega
  · split <;> omega
/-- strain by strength, against another: cross-multiplied -/
def sL (K : KN) (p : PN) (f : FW) (a j b i : Nat) : Nat := sStrain K p a j * sStr K p f (pW p b) b i
/-- the first place that breaks, of the first n -/
def sWeak (K : KN) (p : PN) (f : FW) (a : Nat) : Nat → Option Nat
  | 0 => none
  | n + 1 => match sWeak K p f a n with
    | none => if sStr K p f (pW p a) a n < sStrain K p a n then some n else none
    | some b => if sStr K p f (pW p a) a n < sStrain K p a n ∧ sL K p f a b a n < sL K p f a n a b then some n else some b
/-- left, right -/
def sHow (K : KN) (p : PN) (f : FW) (l r : Option Nat) : Nat × FW :=
  match l, r with
  | none, none => (3, none)
  | none, some j => (0, some (1, j))
  | some i, none => (1, some (0, i))
  | some i, some j => if sL K p f 1 j 0 i < sL K p f 0 i 1 j then (1, some (0, i)) else if sL K p f 0 i 1 j < sL K p f 1 j 0 i then (0, some (1, j)) else (2, none)
/-- what comes, and where it breaks -/
def sComes (K : KN) (p : PN) (f : FW) : Nat × FW :=
  if pR p = 1 ∨ pD p < kBends K then (3, none) else sHow K p f (sWeak K p f 0 (kSize K (pB p) 0)) (sWeak K p f 1 (kSize K (pB p) 1))
theorem sWeak_lt {K : KN} {p : PN} {f : FW} {a : Nat} : ∀ {n j : Nat}, sWeak K p f a n = some j → j < n ∧ sStr K p f (pW p a) a j < sStrain K p a j
  | n + 1, j, h => by
    unfold sWeak at h
    split at h
    · split at h
      · cases h; exact ⟨by omega, by assumption⟩
      · cases h
    · rename_i b hb
      split at h
      · cases h; exact ⟨by omega, by rename_i q; exact q.1⟩
      · cases h; have := sWeak_lt hb; exact ⟨by omega, this.2⟩
def oI : Option Nat → Int32
  | none => m1
  | some j => nI j
/-- all places; a flaw in one of them, the left arm's first -/
def sAll (K : KN) (b : Nat) : Nat := kSize K b 0 + kSize K b 1
def sFlaw (K : KN) (b k : Nat) : Nat × Nat := if k < kSize K b 0 then (0, k) else (1, k - kSize K b 0)
def sSum (K : KN) (p : PN) (what : Nat) : Nat → Nat
  | 0 => if (sComes K p none).1 = what then (100 - kFlaw K) * sAll K (pB p) else 0
  | n + 1 => sSum K p what n + if (sComes K p (some (sFlaw K (pB p) n))).1 = what then kFlaw K else 0
def sOdds (K : KN) (p : PN) (what : Nat) : Nat := sSum K p what (sAll K (pB p))
theorem sAll_le {K : KN} {b : Nat} (hK : K_wf K) (hb : b < kNb K) : 4 ≤ sAll K b ∧ sAll K b ≤ 12 := by
  have s1 := W_b_size (K_wf_b hK _ hb) 0 (by decide)
  have s2 := W_b_size (K_wf_b hK _ hb) 1 (by decide)
  unfold sAll; omega
theorem sSum_le {K : KN} {p : PN} {what : Nat} (hK : K_wf K) (hb : pB p < kNb K) : ∀ n, sSum K p what n ≤ 1200 + 99 * n
  | 0 => by
    have h1 := sAll_le hK hb
    unfold sSum
    split
    · exact Nat.mul_le_mul (by omega : 100 - kFlaw K ≤ 100) h1.2
    · omega
  | n + 1 => by
    have ih := sSum_le hK hb n (what := what)
    have h1 := K_wf_flaw hK
    unfold sSum
    split <;> omega
theorem sOdds_le {K : KN} {p : PN} {what : Nat} (hK : K_wf K) (hb : pB p < kNb K) : sOdds K p what ≤ 2400 := by
  have h1 := sAll_le hK hb
  have h2 := sSum_le (what := what) hK hb (sAll K (pB p))
  unfold sOdds
  have : 99 * sAll K (pB p) ≤ 99 * 12 := Nat.mul_le_mul (Nat.le_refl _) h1.2
  omega
theorem sComes_le {K : KN} {p : PN} {f : FW} : (sComes K p f).1 ≤ 3 := by
  unfold sComes
  split
  · simp
  · unfold sHow
    split
    · simp
    · simp
    · simp
    · split
      · simp
      · split <;> simp
/-! who won, who played, wishes -/
def sWon (K : KN) (p : Nat) : Nat → Nat
  | 0 => 0
  | n + 1 => sWon K p n + if kWin K n = p then 1 else 0
def sLost (K : KN) (p : Nat) : Nat → Nat
  | 0 => 0
  | n + 1 => sLost K p n + if kLos K n = p then 1 else 0
def sLeft (K : KN) : Nat → Nat
  | 0 => 0
  | n + 1 => sLeft K n + if kSide K n = 0 then 1 else 0
def sWonBy (K : KN) (p : Nat) : Nat := sWon K p (kWons K)
def sPlays (K : KN) (p : Nat) : Nat := sWon K p (kWons K) + sLost K p (kWons K)
def sLefts (K : KN) : Nat := sLeft K (kWons K)
theorem sWon_le {K : KN} {p : Nat} : ∀ n, sWon K p n ≤ n
  | 0 => Nat.le_refl _
  | n + 1 => by
    have := sWon_le (K := K) (p := p) n
    unfold sWon; split <;> omega
theorem sLeft_le {K : KN} : ∀ n, sLeft K n ≤ n
  | 0 => Nat.le_refl _
  | n + 1 => by
    have := sLeft_le (K := K) n
    unfold sLeft; split <;> omega
theorem sPlay_le {K : KN} {p : Nat} (h : ∀ i, i < kWons K → kWin K i ≠ kLos K i) : ∀ n, n ≤ kWons K → sWon K p n + sLost K p n ≤ n
  | 0, _ => Nat.le_refl _
  | n + 1, hn => by
    have := sPlay_le (p := p) h n (by omega)
    have := h n (by omega)
    unfold sWon sLost
    split <;> split <;> omega
theorem sPlays_le {K : KN} {p : Nat} (hK : K_wf K) : sPlays K p ≤ 12 ∧ sWonBy K p ≤ sPlays K p := by
  have h1 := sPlay_le (p := p) (fun i hi => (K_wf_won hK i hi).2.2.1) _ (Nat.le_refl (kWons K))
  have h2 := K_wf_wons hK
  unfold sPlays sWonBy
  omega
/-- what others are worth to one -/
def sFor (K : KN) (p : Nat) : Nat → Nat
  | 0 => 0
  | n + 1 => sFor K p n + kFor K p n
theorem sFor_le {K : KN} {p : Nat} (h : W_p K p) : ∀ n, sFor K p n ≤ 99 * n
  | 0 => Nat.le_refl _
  | n + 1 => by
    have := sFor_le h n
    have := W_p_fors h n
    unfold sFor; omega
theorem sFor_up {K : KN} {p : Nat} (h : W_p K p) : ∀ d, sFor K p (kNp K + d) = sFor K p (kNp K)
  | 0 => rfl
  | d + 1 => by
    have := sFor_up h d
    have := W_p_for0 h (kNp K + d) (by omega)
    show sFor K p (kNp K + d) + kFor K p (kNp K + d) = _
    omega
def sWorth (K : KN) (p : Nat) : Nat := kWish K p + sFor K p 6
/-- a cheat's doubt, as the two sides write it -/
def tDoubt (n : Nat) : Int32 := if n = 0 then m1 else nI (n - 1)
def cDoubt (n : Nat) : Int32 := if n = 0 then m2 else nI (n - 1)
/-- who moves -/
def sMv (K : KN) (mv a p : Nat) : Nat := if mv = a ∨ mv = 3 ∨ kIs K p = 2 then 1 else 0
theorem sMv01 {K : KN} {mv a p : Nat} : sMv K mv a p = 0 ∨ sMv K mv a p = 1 := by
  unfold sMv; split
  · exact Or.inr rfl
  · exact Or.inl rfl
/-- the hold that a person has as told -/
def sHold (K : KN) (p b arm : Nat) : Nat := if kHold K p < kSize K b arm then kHold K p else kSize K b arm
theorem sHold_le {K : KN} {p b arm : Nat} (hK : K_wf K) (hp : p < kNp K) : sHold K p b arm ≤ 6 := by
  have := W_p_hold (K_wf_p hK p hp)
  unfold sHold
  split <;> omega
theorem lt2 {P : Nat → Prop} (h0 : P 0) (h1 : P 1) : ∀ a, a < 2 → P a := by
  intro a ha
  have : a = 0 ∨ a = 1 := by omega
  rcases this with rfl | rfl
  · exact h0
  · exact h1
section PMK
variable {b d r w0 w1 h0 h1 m0 m1 : Nat}
theorem p_mk_B : pB (p_mk b d r w0 w1 h0 h1 m0 m1) = b := rfl
theorem p_mk_D : pD (p_mk b d r w0 w1 h0 h1 m0 m1) = d := rfl
theorem p_mk_R : pR (p_mk b d r w0 w1 h0 h1 m0 m1) = r := rfl
theorem p_mk_W0 : pW (p_mk b d r w0 w1 h0 h1 m0 m1) 0 = w0 := rfl
theorem p_mk_W1 : pW (p_mk b d r w0 w1 h0 h1 m0 m1) 1 = w1 := rfl
theorem p_mk_H0 : pH (p_mk b d r w0 w1 h0 h1 m0 m1) 0 = h0 := rfl
theorem p_mk_H1 : pH (p_mk b d r w0 w1 h0 h1 m0 m1) 1 = h1 := rfl
theorem p_mk_M0 : pM (p_mk b d r w0 w1 h0 h1 m0 m1) 0 = m0 := rfl
theorem p_mk_M1 : pM (p_mk b d r w0 w1 h0 h1 m0 m1) 1 = m1 := rfl
end PMK
theorem P_wf_mk {K : KN} {b d r w0 w1 h0 h1 m0 m1 : Nat} (hK : K_wf K) (hb : b < kNb K) (hd : d ≤ 24) (a0 : w0 < kNp K) (a1 : w1 < kNp K) (c0 : h0 ≤ 6) (c1 : h1 ≤ 6) : P_wf K (p_mk b d r w0 w1 h0 h1 m0 m1) := by
  refine ⟨hK, ?_, ?_, lt2 ?_ ?_, lt2 ?_ ?_⟩
  · rw [p_mk_B]; exact hb
  · rw [p_mk_D]; exact hd
  · rw [p_mk_W0]; exact a0
  · rw [p_mk_W1]; exact a1
  · rw [p_mk_H0]; exact c0
  · rw [p_mk_H1]; exact c1
/-- a pull: bone, days, rubber or not, people, holds, who moves -/
def pMk (K : KN) (b d r p q hp hq mv : Nat) : PN := p_mk b d r p q hp hq (sMv K mv 0 p) (sMv K mv 1 q)
/-- as told -/
def pTold (K : KN) (b d r p q : Nat) : PN := pMk K b d r p q (sHold K p b 0) (sHold K q b 1) 2
theorem pMk_wf {K : KN} {b d r p q hp hq mv : Nat} (hK : K_wf K) (hb : b < kNb K) (hd : d ≤ 24) (a0 : p < kNp K) (a1 : q < kNp K) (c0 : hp ≤ 6) (c1 : hq ≤ 6) : P_wf K (pMk K b d r p q hp hq mv) := P_wf_mk hK hb hd a0 a1 c0 c1
