/-! how the reference holds a kitchen, a pull -/
def T_K (h : AH) (k : Nat) (K : KN) : Prop :=
  (a_kd h k = (26, 0)) ∧
  (a_fr h 149 k = some (k + 1)) ∧
  (a_fr h 150 k = some (k + 2)) ∧
  (a_fr h 151 k = some (k + 3)) ∧
  (a_fr h 152 k = some (k + 4)) ∧
  (a_fr h 153 k = some (k + 5)) ∧
  (a_fr h 154 k = some (k + 6)) ∧
  (a_fr h 155 k = some (k + 7)) ∧
  (a_fr h 156 k = some (k + 8)) ∧
  (a_fr h 157 k = some (k + 9)) ∧
  (a_fr h 158 k = some (k + 10)) ∧
  (a_fr h 159 k = some (k + 11)) ∧
  (a_fr h 160 k = some (k + 12)) ∧
  (a_fr h 161 k = some (k + 13)) ∧
  (a_fr h 162 k = some (k + 14)) ∧
  (a_fr h 163 k = some (k + 15)) ∧
  (a_fr h 164 k = some (k + 16)) ∧
  (a_fr h 165 k = some (k + 17)) ∧
  (a_fr h 166 k = some (k + 18)) ∧
  (a_fr h 167 k = some (k + 19)) ∧
  (a_fr h 168 k = some (k + 20)) ∧
  (a_fr h 169 k = some (k + 21)) ∧
  (a_kd h (k + 1) = (1, 5)) ∧
  (a_kd h (k + 2) = (1, 5)) ∧
  (a_kd h (k + 3) = (1, 10)) ∧
  (a_kd h (k + 4) = (1, 60)) ∧
  (a_kd h (k + 5) = (1, 6)) ∧
  (a_kd h (k + 6) = (1, 6)) ∧
  (a_kd h (k + 7) = (1, 6)) ∧
  (a_kd h (k + 8) = (1, 6)) ∧
  (a_kd h (k + 9) = (1, 6)) ∧
  (a_kd h (k + 10) = (1, 6)) ∧
  (a_kd h (k + 11) = (1, 12)) ∧
  (a_kd h (k + 12) = (1, 12)) ∧
  (a_kd h (k + 13) = (1, 12)) ∧
  (a_kd h (k + 14) = (1, 4)) ∧
  (a_kd h (k + 15) = (1, 4)) ∧
  (a_kd h (k + 16) = (1, 6)) ∧
  (a_kd h (k + 17) = (1, 6)) ∧
  (a_kd h (k + 18) = (1, 6)) ∧
  (a_kd h (k + 19) = (5, 11)) ∧
  (a_kd h (k + 20) = (4, 11)) ∧
  (a_kd h (k + 21) = (1, 11)) ∧
  (a_fi h 137 k = nI (kBends K)) ∧
  (a_fi h 138 k = nI (kTough K)) ∧
  (a_fi h 139 k = nI (kJerk K)) ∧
  (a_fi h 140 k = nI (kThumb K)) ∧
  (a_fi h 141 k = nI (kFlaw K)) ∧
  (a_fi h 142 k = nI (kNb K)) ∧
  (a_fi h 143 k = nI (kNp K)) ∧
  (a_fi h 144 k = nI (kFors K)) ∧
  (a_fi h 145 k = nI (kWons K)) ∧
  (a_fi h 146 k = nI (kPieces K)) ∧
  (∀ b, b < kNb K → a_ai h (k + 1) b = nI (kKind K b)) ∧
  (∀ b, b < kNb K → a_ai h (k + 2) b = nI (kDry K b)) ∧
  (∀ b, b < kNb K → ∀ arm, arm < 2 → a_ai h (k + 3) (2 * b + arm) = nI (kSize K b arm)) ∧
  (∀ b, b < kNb K → ∀ arm, arm < 2 → ∀ j, j < kSize K b arm → a_ai h (k + 4) (6 * (2 * b + arm) + j) = nI (kThick K b arm j)) ∧
  (∀ p, p < kNp K → a_ai h (k + 5) p = nI (kIs K p)) ∧
  (∀ p, p < kNp K → a_ai h (k + 6) p = nI (kForce K p)) ∧
  (∀ p, p < kNp K → a_ai h (k + 7) p = nI (kHold K p)) ∧
  (∀ p, p < kNp K → a_ai h (k + 8) p = nI (kWish K p)) ∧
  (∀ p, p < kNp K → a_ai h (k + 10) p = nI (sFor K p 6)) ∧
  (∀ i, i < kWons K → a_ai h (k + 11) i = nI (kWin K i)) ∧
  (∀ i, i < kWons K → a_ai h (k + 12) i = nI (kLos K i)) ∧
  (∀ i, i < kWons K → a_ai h (k + 13) i = nI (kSide K i)) ∧
  (∀ i, i < kPieces K → a_ai h (k + 14) i = nI (kPArm K i)) ∧
  (∀ i, i < kPieces K → a_ai h (k + 15) i = nI (kPAt K i)) ∧
  (∀ p, p < kNp K → a_ai h (k + 16) p = tDoubt (kCheat K p)) ∧
  (∀ p, p < kNp K → kCheat K p ≠ 0 → a_ai h (k + 17) p = nI (kByT K p)) ∧
  (∀ p, p < kNp K → kCheat K p ≠ 0 → a_ai h (k + 18) p = nI (kByF K p))
theorem T_K_kd {h : AH} {k : Nat} {K : KN} (q : T_K h k K) : a_kd h k = (26, 0) := q.1
theorem T_K_kind {h : AH} {k : Nat} {K : KN} (q : T_K h k K) : a_fr h 149 k = some (k + 1) := q.2.1
theorem T_K_dry {h : AH} {k : Nat} {K : KN} (q : T_K h k K) : a_fr h 150 k = some (k + 2) := q.2.2.1
theorem T_K_places {h : AH} {k : Nat} {K : KN} (q : T_K h k K) : a_fr h 151 k = some (k + 3) := q.2.2.2.1
theorem T_K_thick {h : AH} {k : Nat} {K : KN} (q : T_K h k K) : a_fr h 152 k = some (k + 4) := q.2.2.2.2.1
theorem T_K_is {h : AH} {k : Nat} {K : KN} (q : T_K h k K) : a_fr h 153 k = some (k + 5) := q.2.2.2.2.2.1
theorem T_K_force {h : AH} {k : Nat} {K : KN} (q : T_K h k K) : a_fr h 154 k = some (k + 6) := q.2.2.2.2.2.2.1
theorem T_K_hold {h : AH} {k : Nat} {K : KN} (q : T_K h k K) : a_fr h 155 k = some (k + 7) := q.2.2.2.2.2.2.2.1
theorem T_K_wish {h : AH} {k : Nat} {K : KN} (q : T_K h k K) : a_fr h 156 k = some (k + 8) := q.2.2.2.2.2.2.2.2.1
theorem T_K_forWhom {h : AH} {k : Nat} {K : KN} (q : T_K h k K) : a_fr h 157 k = some (k + 9) := q.2.2.2.2.2.2.2.2.2.1
theorem T_K_forAll {h : AH} {k : Nat} {K : KN} (q : T_K h k K) : a_fr h 158 k = some (k + 10) := q.2.2.2.2.2.2.2.2.2.2.1
theorem T_K_winner {h : AH} {k : Nat} {K : KN} (q : T_K h k K) : a_fr h 159 k = some (k + 11) := q.2.2.2.2.2.2.2.2.2.2.2.1
theorem T_K_loser {h : AH} {k : Nat} {K : KN} (q : T_K h k K) : a_fr h 160 k = some (k + 12) := q.2.2.2.2.2.2.2.2.2.2.2.2.1
theorem T_K_side {h : AH} {k : Nat} {K : KN} (q : T_K h k K) : a_fr h 161 k = some (k + 13) := q.2.2.2.2.2.2.2.2.2.2.2.2.2.1
theorem T_K_pieceArm {h : AH} {k : Nat} {K : KN} (q : T_K h k K) : a_fr h 162 k = some (k + 14) := q.2.2.2.2.2.2.2.2.2.2.2.2.2.2.1
theorem T_K_pieceAt {h : AH} {k : Nat} {K : KN} (q : T_K h k K) : a_fr h 163 k = some (k + 15) := q.2.2.2.2.2.2.2.2.2.2.2.2.2.2.2.1
theorem T_K_cheats {h : AH} {k : Nat} {K : KN} (q : T_K h k K) : a_fr h 164 k = some (k + 16) := q.2.2.2.2.2.2.2.2.2.2.2.2.2.2.2.2.1
theorem T_K_byThumb {h : AH} {k : Nat} {K : KN} (q : T_K h k K) : a_fr h 165 k = some (k + 17) := q.2.2.2.2.2.2.2.2.2.2.2.2.2.2.2.2.2.1
theorem T_K_byFair {h : AH} {k : Nat} {K : KN} (q : T_K h k K) : a_fr h 166 k = some (k + 18) := q.2.2.2.2.2.2.2.2.2.2.2.2.2.2.2.2.2.2.1
theorem T_K_name {h : AH} {k : Nat} {K : KN} (q : T_K h k K) : a_fr h 167 k = some (k + 19) := q.2.2.2.2.2.2.2.2.2.2.2.2.2.2.2.2.2.2.2.1
theorem T_K_isBone {h : AH} {k : Nat} {K : KN} (q : T_K h k K) : a_fr h 168 k = some (k + 20) := q.2.2.2.2.2.2.2.2.2.2.2.2.2.2.2.2.2.2.2.2.1
theorem T_K_numberOf {h : AH} {k : Nat} {K : KN} (q : T_K h k K) : a_fr h 169 k = some (k + 21) := q.2.2.2.2.2.2.2.2.2.2.2.2.2.2.2.2.2.2.2.2.2.1
theorem T_K_d1 {h : AH} {k : Nat} {K : KN} (q : T_K h k K) : a_kd h (k + 1) = (1, 5) := q.2.2.2.2.2.2.2.2.2.2.2.2.2.2.2.2.2.2.2.2.2.2.1
theorem T_K_d2 {h : AH} {k : Nat} {K : KN} (q : T_K h k K) : a_kd h (k + 2) = (1, 5) := q.2.2.2.2.2.2.2.2.2.2.2.2.2.2.2.2.2.2.2.2.2.2.2.1
theorem T_K_d3 {h : AH} {k : Nat} {K : KN} (q : T_K h k K) : a_kd h (k + 3) = (1, 10) := q.2.2.2.2.2.2.2.2.2.2.2.2.2.2.2.2.2.2.2.2.2.2.2.2.1
theorem T_K_d4 {h : AH} {k : Nat} {K : KN} (q : T_K h k K) : a_kd h (k + 4) = (1, 60) := q.2.2.2.2.2.2.2.2.2.2.2.2.2.2.2.2.2.2.2.2.2.2.2.2.2.1
theorem T_K_d5 {h : AH} {k : Nat} {K : KN} (q : T_K h k K) : a_kd h (k + 5) = (1, 6) := q.2.2.2.2.2.2.2.2.2.2.2.2.2.2.2.2.2.2.2.2.2.2.2.2.2.2.1
theorem T_K_d6 {h : AH} {k : Nat} {K : KN} (q : T_K h k K) : a_kd h (k + 6) = (1, 6) := q.2.2.2.2.2.2.2.2.2.2.2.2.2.2.2.2.2.2.2.2.2.2.2.2.2.2.2.1
theorem T_K_d7 {h : AH} {k : Nat} {K : KN} (q : T_K h k K) : a_kd h (k + 7) = (1, 6) := q.2.2.2.2.2.2.2.2.2.2.2.2.2.2.2.2.2.2.2.2.2.2.2.2.2.2.2.2.1
theorem T_K_d8 {h : AH} {k : Nat} {K : KN} (q : T_K h k K) : a_kd h (k + 8) = (1, 6) := q.2.2.2.2.2.2.2.2.2.2.2.2.2.2.2.2.2.2.2.2.2.2.2.2.2.2.2.2.2.1
theorem T_K_d9 {h : AH} {k : Nat} {K : KN} (q : T_K h k K) : a_kd h (k + 9) = (1, 6) := q.2.2.2.2.2.2.2.2.2.2.2.2.2.2.2.2.2.2.2.2.2.2.2.2.2.2.2.2.2.2.1
theorem T_K_d10 {h : AH} {k : Nat} {K : KN} (q : T_K h k K) : a_kd h (k + 10) = (1, 6) := q.2.2.2.2.2.2.2.2.2.2.2.2.2.2.2.2.2.2.2.2.2.2.2.2.2.2.2.2.2.2.2.1
theorem T_K_d11 {h : AH} {k : Nat} {K : KN} (q : T_K h k K) : a_kd h (k + 11) = (1, 12) := q.2.2.2.2.2.2.2.2.2.2.2.2.2.2.2.2.2.2.2.2.2.2.2.2.2.2.2.2.2.2.2.2.1
theorem T_K_d12 {h : AH} {k : Nat} {K : KN} (q : T_K h k K) : a_kd h (k + 12) = (1, 12) := q.2.2.2.2.2.2.2.2.2.2.2.2.2.2.2.2.2.2.2.2.2.2.2.2.2.2.2.2.2.2.2.2.2.1
theorem T_K_d13 {h : AH} {k : Nat} {K : KN} (q : T_K h k K) : a_kd h (k + 13) = (1, 12) := q.2.2.2.2.2.2.2.2.2.2.2.2.2.2.2.2.2.2.2.2.2.2.2.2.2.2.2.2.2.2.2.2.2.2.1
theorem T_K_d14 {h : AH} {k : Nat} {K : KN} (q : T_K h k K) : a_kd h (k + 14) = (1, 4) := q.2.2.2.2.2.2.2.2.2.2.2.2.2.2.2.2.2.2.2.2.2.2.2.2.2.2.2.2.2.2.2.2.2.2.2.1
theorem T_K_d15 {h : AH} {k : Nat} {K : KN} (q : T_K h k K) : a_kd h (k + 15) = (1, 4) := q.2.2.2.2.2.2.2.2.2.2.2.2.2.2.2.2.2.2.2.2.2.2.2.2.2.2.2.2.2.2.2.2.2.2.2.2.1
theorem T_K_d16 {h : AH} {k : Nat} {K : KN} (q : T_K h k K) : a_kd h (k + 16) = (1, 6) := q.2.2.2.2.2.2.2.2.2.2.2.2.2.2.2.2.2.2.2.2.2.2.2.2.2.2.2.2.2.2.2.2.2.2.2.2.2.1
theorem T_K_d17 {h : AH} {k : Nat} {K : KN} (q : T_K h k K) : a_kd h (k + 17) = (1, 6) := q.2.2.2.2.2.2.2.2.2.2.2.2.2.2.2.2.2.2.2.2.2.2.2.2.2.2.2.2.2.2.2.2.2.2.2.2.2.2.1
theorem T_K_d18 {h : AH} {k : Nat} {K : KN} (q : T_K h k K) : a_kd h (k + 18) = (1, 6) := q.2.2.2.2.2.2.2.2.2.2.2.2.2.2.2.2.2.2.2.2.2.2.2.2.2.2.2.2.2.2.2.2.2.2.2.2.2.2.2.1
theorem T_K_d19 {h : AH} {k : Nat} {K : KN} (q : T_K h k K) : a_kd h (k + 19) = (5, 11) := q.2.2.2.2.2.2.2.2.2.2.2.2.2.2.2.2.2.2.2.2.2.2.2.2.2.2.2.2.2.2.2.2.2.2.2.2.2.2.2.2.1
theorem T_K_d20 {h : AH} {k : Nat} {K : KN} (q : T_K h k K) : a_kd h (k + 20) = (4, 11) := q.2.2.2.2.2.2.2.2.2.2.2.2.2.2.2.2.2.2.2.2.2.2.2.2.2.2.2.2.2.2.2.2.2.2.2.2.2.2.2.2.2.1
theorem T_K_d21 {h : AH} {k : Nat} {K : KN} (q : T_K h k K) : a_kd h (k + 21) = (1, 11) := q.2.2.2.2.2.2.2.2.2.2.2.2.2.2.2.2.2.2.2.2.2.2.2.2.2.2.2.2.2.2.2.2.2.2.2.2.2.2.2.2.2.2.1
theorem T_K_bends {h : AH} {k : Nat} {K : KN} (q : T_K h k K) : a_fi h 137 k = nI (kBends K) := q.2.2.2.2.2.2.2.2.2.2.2.2.2.2.2.2.2.2.2.2.2.2.2.2.2.2.2.2.2.2.2.2.2.2.2.2.2.2.2.2.2.2.2.1
theorem T_K_tough {h : AH} {k : Nat} {K : KN} (q : T_K h k K) : a_fi h 138 k = nI (kTough K) := q.2.2.2.2.2.2.2.2.2.2.2.2.2.2.2.2.2.2.2.2.2.2.2.2.2.2.2.2.2.2.2.2.2.2.2.2.2.2.2.2.2.2.2.2.1
theorem T_K_jerk {h : AH} {k : Nat} {K : KN} (q : T_K h k K) : a_fi h 139 k = nI (kJerk K) := q.2.2.2.2.2.2.2.2.2.2.2.2.2.2.2.2.2.2.2.2.2.2.2.2.2.2.2.2.2.2.2.2.2.2.2.2.2.2.2.2.2.2.2.2.2.1
theorem T_K_thumb {h : AH} {k : Nat} {K : KN} (q : T_K h k K) : a_fi h 140 k = nI (kThumb K) := q.2.2.2.2.2.2.2.2.2.2.2.2.2.2.2.2.2.2.2.2.2.2.2.2.2.2.2.2.2.2.2.2.2.2.2.2.2.2.2.2.2.2.2.2.2.2.1
theorem T_K_flaw {h : AH} {k : Nat} {K : KN} (q : T_K h k K) : a_fi h 141 k = nI (kFlaw K) := q.2.2.2.2.2.2.2.2.2.2.2.2.2.2.2.2.2.2.2.2.2.2.2.2.2.2.2.2.2.2.2.2.2.2.2.2.2.2.2.2.2.2.2.2.2.2.2.1
theorem T_K_nb {h : AH} {k : Nat} {K : KN} (q : T_K h k K) : a_fi h 142 k = nI (kNb K) := q.2.2.2.2.2.2.2.2.2.2.2.2.2.2.2.2.2.2.2.2.2.2.2.2.2.2.2.2.2.2.2.2.2.2.2.2.2.2.2.2.2.2.2.2.2.2.2.2.1
theorem T_K_np {h : AH} {k : Nat} {K : KN} (q : T_K h k K) : a_fi h 143 k = nI (kNp K) := q.2.2.2.2.2.2.2.2.2.2.2.2.2.2.2.2.2.2.2.2.2.2.2.2.2.2.2.2.2.2.2.2.2.2.2.2.2.2.2.2.2.2.2.2.2.2.2.2.2.1
theorem T_K_fors {h : AH} {k : Nat} {K : KN} (q : T_K h k K) : a_fi h 144 k = nI (kFors K) := q.2.2.2.2.2.2.2.2.2.2.2.2.2.2.2.2.2.2.2.2.2.2.2.2.2.2.2.2.2.2.2.2.2.2.2.2.2.2.2.2.2.2.2.2.2.2.2.2.2.2.1
theorem T_K_wons {h : AH} {k : Nat} {K : KN} (q : T_K h k K) : a_fi h 145 k = nI (kWons K) := q.2.2.2.2.2.2.2.2.2.2.2.2.2.2.2.2.2.2.2.2.2.2.2.2.2.2.2.2.2.2.2.2.2.2.2.2.2.2.2.2.2.2.2.2.2.2.2.2.2.2.2.1
theorem T_K_pieces {h : AH} {k : Nat} {K : KN} (q : T_K h k K) : a_fi h 146 k = nI (kPieces K) := q.2.2.2.2.2.2.2.2.2.2.2.2.2.2.2.2.2.2.2.2.2.2.2.2.2.2.2.2.2.2.2.2.2.2.2.2.2.2.2.2.2.2.2.2.2.2.2.2.2.2.2.2.1
theorem T_K_akind {h : AH} {k : Nat} {K : KN} (q : T_K h k K) : ∀ b, b < kNb K → a_ai h (k + 1) b = nI (kKind K b) := q.2.2.2.2.2.2.2.2.2.2.2.2.2.2.2.2.2.2.2.2.2.2.2.2.2.2.2.2.2.2.2.2.2.2.2.2.2.2.2.2.2.2.2.2.2.2.2.2.2.2.2.2.2.1
theorem T_K_adry {h : AH} {k : Nat} {K : KN} (q : T_K h k K) : ∀ b, b < kNb K → a_ai h (k + 2) b = nI (kDry K b) := q.2.2.2.2.2.2.2.2.2.2.2.2.2.2.2.2.2.2.2.2.2.2.2.2.2.2.2.2.2.2.2.2.2.2.2.2.2.2.2.2.2.2.2.2.2.2.2.2.2.2.2.2.2.2.1
theorem T_K_size {h : AH} {k : Nat} {K : KN} (q : T_K h k K) : ∀ b, b < kNb K → ∀ arm, arm < 2 → a_ai h (k + 3) (2 * b + arm) = nI (kSize K b arm) := q.2.2.2.2.2.2.2.2.2.2.2.2.2.2.2.2.2.2.2.2.2.2.2.2.2.2.2.2.2.2.2.2.2.2.2.2.2.2.2.2.2.2.2.2.2.2.2.2.2.2.2.2.2.2.2.1
theorem T_K_athick {h : AH} {k : Nat} {K : KN} (q : T_K h k K) : ∀ b, b < kNb K → ∀ arm, arm < 2 → ∀ j, j < kSize K b arm → a_ai h (k + 4) (6 * (2 * b + arm) + j) = nI (kThick K b arm j) := q.2.2.2.2.2.2.2.2.2.2.2.2.2.2.2.2.2.2.2.2.2.2.2.2.2.2.2.2.2.2.2.2.2.2.2.2.2.2.2.2.2.2.2.2.2.2.2.2.2.2.2.2.2.2.2.2.1
theorem T_K_ais {h : AH} {k : Nat} {K : KN} (q : T_K h k K) : ∀ p, p < kNp K → a_ai h (k + 5) p = nI (kIs K p) := q.2.2.2.2.2.2.2.2.2.2.2.2.2.2.2.2.2.2.2.2.2.2.2.2.2.2.2.2.2.2.2.2.2.2.2.2.2.2.2.2.2.2.2.2.2.2.2.2.2.2.2.2.2.2.2.2.2.1
theorem T_K_aforce {h : AH} {k : Nat} {K : KN} (q : T_K h k K) : ∀ p, p < kNp K → a_ai h (k + 6) p = nI (kForce K p) := q.2.2.2.2.2.2.2.2.2.2.2.2.2.2.2.2.2.2.2.2.2.2.2.2.2.2.2.2.2.2.2.2.2.2.2.2.2.2.2.2.2.2.2.2.2.2.2.2.2.2.2.2.2.2.2.2.2.2.1
theorem T_K_ahold {h : AH} {k : Nat} {K : KN} (q : T_K h k K) : ∀ p, p < kNp K → a_ai h (k + 7) p = nI (kHold K p) := q.2.2.2.2.2.2.2.2.2.2.2.2.2.2.2.2.2.2.2.2.2.2.2.2.2.2.2.2.2.2.2.2.2.2.2.2.2.2.2.2.2.2.2.2.2.2.2.2.2.2.2.2.2.2.2.2.2.2.2.1
theorem T_K_awish {h : AH} {k : Nat} {K : KN} (q : T_K h k K) : ∀ p, p < kNp K → a_ai h (k + 8) p = nI (kWish K p) := q.2.2.2.2.2.2.2.2.2.2.2.2.2.2.2.2.2.2.2.2.2.2.2.2.2.2.2.2.2.2.2.2.2.2.2.2.2.2.2.2.2.2.2.2.2.2.2.2.2.2.2.2.2.2.2.2.2.2.2.2.1
theorem T_K_afor {h : AH} {k : Nat} {K : KN} (q : T_K h k K) : ∀ p, p < kNp K → a_ai h (k + 10) p = nI (sFor K p 6) := q.2.2.2.2.2.2.2.2.2.2.2.2.2.2.2.2.2.2.2.2.2.2.2.2.2.2.2.2.2.2.2.2.2.2.2.2.2.2.2.2.2.2.2.2.2.2.2.2.2.2.2.2.2.2.2.2.2.2.2.2.2.1
theorem T_K_awin {h : AH} {k : Nat} {K : KN} (q : T_K h k K) : ∀ i, i < kWons K → a_ai h (k + 11) i = nI (kWin K i) := q.2.2.2.2.2.2.2.2.2.2.2.2.2.2.2.2.2.2.2.2.2.2.2.2.2.2.2.2.2.2.2.2.2.2.2.2.2.2.2.2.2.2.2.2.2.2.2.2.2.2.2.2.2.2.2.2.2.2.2.2.2.2.1
theorem T_K_alos {h : AH} {k : Nat} {K : KN} (q : T_K h k K) : ∀ i, i < kWons K → a_ai h (k + 12) i = nI (kLos K i) := q.2.2.2.2.2.2.2.2.2.2.2.2.2.2.2.2.2.2.2.2.2.2.2.2.2.2.2.2.2.2.2.2.2.2.2.2.2.2.2.2.2.2.2.2.2.2.2.2.2.2.2.2.2.2.2.2.2.2.2.2.2.2.2.1
theorem T_K_aside {h : AH} {k : Nat} {K : KN} (q : T_K h k K) : ∀ i, i < kWons K → a_ai h (k + 13) i = nI (kSide K i) := q.2.2.2.2.2.2.2.2.2.2.2.2.2.2.2.2.2.2.2.2.2.2.2.2.2.2.2.2.2.2.2.2.2.2.2.2.2.2.2.2.2.2.2.2.2.2.2.2.2.2.2.2.2.2.2.2.2.2.2.2.2.2.2.2.1
theorem T_K_aparm {h : AH} {k : Nat} {K : KN} (q : T_K h k K) : ∀ i, i < kPieces K → a_ai h (k + 14) i = nI (kPArm K i) := q.2.2.2.2.2.2.2.2.2.2.2.2.2.2.2.2.2.2.2.2.2.2.2.2.2.2.2.2.2.2.2.2.2.2.2.2.2.2.2.2.2.2.2.2.2.2.2.2.2.2.2.2.2.2.2.2.2.2.2.2.2.2.2.2.2.1
theorem T_K_apat {h : AH} {k : Nat} {K : KN} (q : T_K h k K) : ∀ i, i < kPieces K → a_ai h (k + 15) i = nI (kPAt K i) := q.2.2.2.2.2.2.2.2.2.2.2.2.2.2.2.2.2.2.2.2.2.2.2.2.2.2.2.2.2.2.2.2.2.2.2.2.2.2.2.2.2.2.2.2.2.2.2.2.2.2.2.2.2.2.2.2.2.2.2.2.2.2.2.2.2.2.1
theorem T_K_acheat {h : AH} {k : Nat} {K : KN} (q : T_K h k K) : ∀ p, p < kNp K → a_ai h (k + 16) p = tDoubt (kCheat K p) := q.2.2.2.2.2.2.2.2.2.2.2.2.2.2.2.2.2.2.2.2.2.2.2.2.2.2.2.2.2.2.2.2.2.2.2.2.2.2.2.2.2.2.2.2.2.2.2.2.2.2.2.2.2.2.2.2.2.2.2.2.2.2.2.2.2.2.2.1
theorem T_K_abyt {h : AH} {k : Nat} {K : KN} (q : T_K h k K) : ∀ p, p < kNp K → kCheat K p ≠ 0 → a_ai h (k + 17) p = nI (kByT K p) := q.2.2.2.2.2.2.2.2.2.2.2.2.2.2.2.2.2.2.2.2.2.2.2.2.2.2.2.2.2.2.2.2.2.2.2.2.2.2.2.2.2.2.2.2.2.2.2.2.2.2.2.2.2.2.2.2.2.2.2.2.2.2.2.2.2.2.2.2.1
theorem T_K_abyf {h : AH} {k : Nat} {K : KN} (q : T_K h k K) : ∀ p, p < kNp K → kCheat K p ≠ 0 → a_ai h (k + 18) p = nI (kByF K p) := q.2.2.2.2.2.2.2.2.2.2.2.2.2.2.2.2.2.2.2.2.2.2.2.2.2.2.2.2.2.2.2.2.2.2.2.2.2.2.2.2.2.2.2.2.2.2.2.2.2.2.2.2.2.2.2.2.2.2.2.2.2.2.2.2.2.2.2.2.2
theorem T_many {h : AH} {k : Nat} {K : KN} {b arm : Nat} (hT : T_K h k K) (hw : K_wf K) (hb : b < kNb K) (ha : arm < 2) : F_X20_many [.ref k, .int (nI b), .int (nI arm)] h = some (.inl (some (.int (nI (kSize K b arm)))), h) := by
  have h1 := (K_wf_nb hw).2
  rw [ent_X20_many]
  simp (disch := omega) only [e_g_ild, e_ild, e_g_lld, e_lld, e_g_ald, e_g_ald0, e_ald, e_g_iinc, e_iinc, e_push, e_ist, e_lst, e_ast, e_ast0, e_i2, e_i2d, e_i1, e_l1, e_l2, e_l2d, e_li, e_i2l, e_l2i, e_lcmp, e_dup, e_pop, e_dup2, e_ieq, e_ine, e_ilt, e_ige, e_igt, e_ile, e_ceq, e_cne, e_clt, e_cge, e_cgt, e_cle, e_ifn, e_ifn0, e_ifnn, e_ifnn0, e_aeq, e_ane, e_sw, e_sw0, e_sw1, e_gfi, e_gfl, e_gfr, e_pfi, e_pfl, e_pfr, e_pfr0, e_iald, e_lald, e_aald, e_aald2, e_iast, e_last, e_aast, e_alen, e_newa, e_new, e_mk0, e_oinit, e_ldcs, e_gst, e_cast, e_cast0, e_inst, e_inst0, e_g_c1, e_g_c2, e_g_c3, e_call, e_kd, e_rcv, e_copy, e_throw, e_iret, e_lret, e_aret, e_aret0, e_vret, e_catch, e_out, e_back, e_exit, e_kexit, e_w_cl, e_w_fi, e_w_fl, e_w_fr, e_w_ai, e_w_al, e_w_ar, e_w_cp, e_w_nw, e_w_kx, e_w_fin, g_if_t, g_if_f, g_if_t2, g_if_f2, g_if_n, f_if_t, f_if_f, f_or2_f, f_or2_t, f_or3_s, e_m2i, e_m2l, e_m1l, e_csum0, e_csum1, l_st1, l_st2, l_clr, List.getElem?_cons_zero, List.getElem?_cons_succ, List.set_cons_zero, List.set_cons_succ, List.take_succ_cons, List.take_zero, List.drop_succ_cons, List.drop_zero, List.reverse_cons, List.reverse_nil, List.nil_append, List.cons_append, List.length_cons, List.length_nil, List.map_cons, List.map_nil, List.sum_cons, List.sum_nil, List.mem_cons, List.not_mem_nil, or_false, false_or, or_true, true_or, and_true, true_and, and_false, false_and, not_true_eq_false, not_false_eq_true, Value.category, Option.map_some, Option.map_none, va_rf_some, va_rf_none, p_ok_int, reduceCtorEq, if_true, if_false, Nat.reduceAdd, Nat.reduceSub, Nat.reduceMul, Nat.reduceLeDiff, ↓Nat.reduceEqDiff, ↓reduceIte, Nat.reduceDiv, Nat.reduceMod, Nat.zero_add, Nat.add_zero, Nat.add_left_cancel_iff, Nat.add_right_cancel_iff, Nat.add_eq_left, Nat.left_eq_add, isb_0, isb_1, isb_p, isb_T, isb_F, ↓nI_m1, ↓nI_m2, nI_c0, nI_c1, nI_c2, nI_c3, nI_c4, nI_c5, nI_c6, nI_c7, nI_c8, nI_c9, nI_c10, nI_c11, nI_c12, nI_c13, nI_c15, nI_c16, nI_c17, nI_c18, nI_c20, nI_c24, nI_c25, nI_c31, nI_c32, nI_c44, nI_c48, nI_c54, nI_c57, nI_c59, nI_c60, nI_c63, nI_c74, nI_c75, nI_c97, nI_c99, nI_c100, nI_c122, nI_c144, nI_c200, nI_c255, nI_c270, nI_c288, nI_c1000, nI_c65536, nI_c65537, nI_c1000000, nI_add, pk_mul, pk_sub, nI_clamp, b_in_nI, nI_eq_, nI_le_, nI_lt_, nI_div_, nI_rem_, n_rem, nI_sr, lN_sr, nI_if0, nI_if1, m1_e, m1_e3, m1_e4, m1_l1, m1_l2, m1_l3, m1_l4, m2_e1, m2_e2, m2_m1, m1_m2, p_ok_b, p_ok_b0, p_ok_b1, ↓lN_m1, lN_c0, lN_c1, lN_c2, lN_c20, lN_c32, lN_c74, lN_c75, lN_c100, lN_c200, lN_c65537, lN_add, lN_mul, lN_sub, lN_le_, lN_lt_, lN_eq_, lN_div_, lN_rem_, nI_l_, m1_l, lg_sub, lg_lN, lg_m1, lg_m1', lg_m1_m1, lg_m1r, nI3_le, nI3_e0, nI3_ge, nI3_gt, nI3_lt, nI2_le, nI2_e0, nI2_ge, nI2_gt, nI2_lt, nI4_le, nI4_e0, nI4_ge, nI4_gt, nI4_lt, nI5_le, nI5_e0, nI5_ge, nI5_gt, nI5_lt, o_le_t, o_le_f, o_lt_t, o_lt_f, o_eq_t, o_eq_f, gs_cs_fi, gs_kd_fi, gs_fi_fi, gs_fl_fi, gs_fr_fi, gs_ai_fi, gs_al_fi, gs_ar_fi, gs_sz_fi, gs_sl_fi, gs_cs_fl, gs_kd_fl, gs_fi_fl, gs_fl_fl, gs_fr_fl, gs_ai_fl, gs_al_fl, gs_ar_fl, gs_sz_fl, gs_sl_fl, gs_cs_fr, gs_kd_fr, gs_fi_fr, gs_fl_fr, gs_fr_fr, gs_ai_fr, gs_al_fr, gs_ar_fr, gs_sz_fr, gs_sl_fr, gs_cs_ai, gs_kd_ai, gs_fi_ai, gs_fl_ai, gs_fr_ai, gs_ai_ai, gs_al_ai, gs_ar_ai, gs_sz_ai, gs_sl_ai, gs_cs_al, gs_kd_al, gs_fi_al, gs_fl_al, gs_fr_al, gs_ai_al, gs_al_al, gs_ar_al, gs_sz_al, gs_sl_al, gs_cs_ar, gs_kd_ar, gs_fi_ar, gs_fl_ar, gs_fr_ar, gs_ai_ar, gs_al_ar, gs_ar_ar, gs_sz_ar, gs_sl_ar, gs_cs_n, gs_kd_n, gs_fi_n, gs_fl_n, gs_fr_n, gs_ai_n, gs_al_n, gs_ar_n, gs_sz_n, gs_sl_n, gs_lo_fi, gs_lo_fl, gs_lo_fr, gs_lo_ai, gs_lo_al, gs_lo_ar, gs_lo_n, e_X20_many_b0, T_K_kd hT, T_K_places hT, T_K_d3 hT, T_K_size hT]
theorem T_thickAt {h : AH} {k : Nat} {K : KN} {b arm j : Nat} (hT : T_K h k K) (hw : K_wf K) (hb : b < kNb K) (ha : arm < 2) (hj : j < kSize K b arm) : F_X20_thickAt [.ref k, .int (nI b), .int (nI arm), .int (nI j)] h = some (.inl (some (.int (nI (kThick K b arm j)))), h) := by
  have h1 := (K_wf_nb hw).2
  have h2 := W_b_size (K_wf_b hw b hb) arm ha
  rw [ent_X20_thickAt]
  simp (disch := omega) only [e_g_ild, e_ild, e_g_lld, e_lld, e_g_ald, e_g_ald0, e_ald, e_g_iinc, e_iinc, e_push, e_ist, e_lst, e_ast, e_ast0, e_i2, e_i2d, e_i1, e_l1, e_l2, e_l2d, e_li, e_i2l, e_l2i, e_lcmp, e_dup, e_pop, e_dup2, e_ieq, e_ine, e_ilt, e_ige, e_igt, e_ile, e_ceq, e_cne, e_clt, e_cge, e_cgt, e_cle, e_ifn, e_ifn0, e_ifnn, e_ifnn0, e_aeq, e_ane, e_sw, e_sw0, e_sw1, e_gfi, e_gfl, e_gfr, e_pfi, e_pfl, e_pfr, e_pfr0, e_iald, e_lald, e_aald, e_aald2, e_iast, e_last, e_aast, e_alen, e_newa, e_new, e_mk0, e_oinit, e_ldcs, e_gst, e_cast, e_cast0, e_inst, e_inst0, e_g_c1, e_g_c2, e_g_c3, e_call, e_kd, e_rcv, e_copy, e_throw, e_iret, e_lret, e_aret, e_aret0, e_vret, e_catch, e_out, e_back, e_exit, e_kexit, e_w_cl, e_w_fi, e_w_fl, e_w_fr, e_w_ai, e_w_al, e_w_ar, e_w_cp, e_w_nw, e_w_kx, e_w_fin, g_if_t, g_if_f, g_if_t2, g_if_f2, g_if_n, f_if_t, f_if_f, f_or2_f, f_or2_t, f_or3_s, e_m2i, e_m2l, e_m1l, e_csum0, e_csum1, l_st1, l_st2, l_clr, List.getElem?_cons_zero, List.getElem?_cons_succ, List.set_cons_zero, List.set_cons_succ, List.take_succ_cons, List.take_zero, List.drop_succ_cons, List.drop_zero, List.reverse_cons, List.reverse_nil, List.nil_append, List.cons_append, List.length_cons, List.length_nil, List.map_cons, List.map_nil, List.sum_cons, List.sum_nil, List.mem_cons, List.not_mem_nil, or_false, false_or, or_true, true_or, and_true, true_and, and_false, false_and, not_true_eq_false, not_false_eq_true, Value.category, Option.map_some, Option.map_none, va_rf_some, va_rf_none, p_ok_int, reduceCtorEq, if_true, if_false, Nat.reduceAdd, Nat.reduceSub, Nat.reduceMul, Nat.reduceLeDiff, ↓Nat.reduceEqDiff, ↓reduceIte, Nat.reduceDiv, Nat.reduceMod, Nat.zero_add, Nat.add_zero, Nat.add_left_cancel_iff, Nat.add_right_cancel_iff, Nat.add_eq_left, Nat.left_eq_add, isb_0, isb_1, isb_p, isb_T, isb_F, ↓nI_m1, ↓nI_m2, nI_c0, nI_c1, nI_c2, nI_c3, nI_c4, nI_c5, nI_c6, nI_c7, nI_c8, nI_c9, nI_c10, nI_c11, nI_c12, nI_c13, nI_c15, nI_c16, nI_c17, nI_c18, nI_c20, nI_c24, nI_c25, nI_c31, nI_c32, nI_c44, nI_c48, nI_c54, nI_c57, nI_c59, nI_c60, nI_c63, nI_c74, nI_c75, nI_c97, nI_c99, nI_c100, nI_c122, nI_c144, nI_c200, nI_c255, nI_c270, nI_c288, nI_c1000, nI_c65536, nI_c65537, nI_c1000000, nI_add, pk_mul, pk_sub, nI_clamp, b_in_nI, nI_eq_, nI_le_, nI_lt_, nI_div_, nI_rem_, n_rem, nI_sr, lN_sr, nI_if0, nI_if1, m1_e, m1_e3, m1_e4, m1_l1, m1_l2, m1_l3, m1_l4, m2_e1, m2_e2, m2_m1, m1_m2, p_ok_b, p_ok_b0, p_ok_b1, ↓lN_m1, lN_c0, lN_c1, lN_c2, lN_c20, lN_c32, lN_c74, lN_c75, lN_c100, lN_c200, lN_c65537, lN_add, lN_mul, lN_sub, lN_le_, lN_lt_, lN_eq_, lN_div_, lN_rem_, nI_l_, m1_l, lg_sub, lg_lN, lg_m1, lg_m1', lg_m1_m1, lg_m1r, nI3_le, nI3_e0, nI3_ge, nI3_gt, nI3_lt, nI2_le, nI2_e0, nI2_ge, nI2_gt, nI2_lt, nI4_le, nI4_e0, nI4_ge, nI4_gt, nI4_lt, nI5_le, nI5_e0, nI5_ge, nI5_gt, nI5_lt, o_le_t, o_le_f, o_lt_t, o_lt_f, o_eq_t, o_eq_f, gs_cs_fi, gs_kd_fi, gs_fi_fi, gs_fl_fi, gs_fr_fi, gs_ai_fi, gs_al_fi, gs_ar_fi, gs_sz_fi, gs_sl_fi, gs_cs_fl, gs_kd_fl, gs_fi_fl, gs_fl_fl, gs_fr_fl, gs_ai_fl, gs_al_fl, gs_ar_fl, gs_sz_fl, gs_sl_fl, gs_cs_fr, gs_kd_fr, gs_fi_fr, gs_fl_fr, gs_fr_fr, gs_ai_fr, gs_al_fr, gs_ar_fr, gs_sz_fr, gs_sl_fr, gs_cs_ai, gs_kd_ai, gs_fi_ai, gs_fl_ai, gs_fr_ai, gs_ai_ai, gs_al_ai, gs_ar_ai, gs_sz_ai, gs_sl_ai, gs_cs_al, gs_kd_al, gs_fi_al, gs_fl_al, gs_fr_al, gs_ai_al, gs_al_al, gs_ar_al, gs_sz_al, gs_sl_al, gs_cs_ar, gs_kd_ar, gs_fi_ar, gs_fl_ar, gs_fr_ar, gs_ai_ar, gs_al_ar, gs_ar_ar, gs_sz_ar, gs_sl_ar, gs_cs_n, gs_kd_n, gs_fi_n, gs_fl_n, gs_fr_n, gs_ai_n, gs_al_n, gs_ar_n, gs_sz_n, gs_sl_n, gs_lo_fi, gs_lo_fl, gs_lo_fr, gs_lo_ai, gs_lo_al, gs_lo_ar, gs_lo_n, e_X20_thickAt_b0, T_K_kd hT, T_K_thick hT, T_K_d4 hT, T_K_athick hT]
theorem T_holds {h : AH} {k : Nat} {K : KN} {p b arm : Nat} (hT : T_K h k K) (hw : K_wf K) (hp : p < kNp K) (hb : b < kNb K) (ha : arm < 2) : F_X20_holds [.ref k, .int (nI p), .int (nI b), .int (nI arm)] h = some (.inl (some (.int (nI (sHold K p b arm)))), h) := by
  have h1 := (K_wf_np hw).2
  have h2 := W_b_size (K_wf_b hw b hb) arm ha
  have h3 := W_p_hold (K_wf_p hw p hp)
  rw [ent_X20_holds]
  unfold sHold
  by_cases hc : kHold K p < kSize K b arm
  · have hc' : ¬ kSize K b arm ≤ kHold K p := by omega
    simp (disch := omega) only [e_g_ild, e_ild, e_g_lld, e_lld, e_g_ald, e_g_ald0, e_ald, e_g_iinc, e_iinc, e_push, e_ist, e_lst, e_ast, e_ast0, e_i2, e_i2d, e_i1, e_l1, e_l2, e_l2d, e_li, e_i2l, e_l2i, e_lcmp, e_dup, e_pop, e_dup2, e_ieq, e_ine, e_ilt, e_ige, e_igt, e_ile, e_ceq, e_cne, e_clt, e_cge, e_cgt, e_cle, e_ifn, e_ifn0, e_ifnn, e_ifnn0, e_aeq, e_ane, e_sw, e_sw0, e_sw1, e_gfi, e_gfl, e_gfr, e_pfi, e_pfl, e_pfr, e_pfr0, e_iald, e_lald, e_aald, e_aald2, e_iast, e_last, e_aast, e_alen, e_newa, e_new, e_mk0, e_oinit, e_ldcs, e_gst, e_cast, e_cast0, e_inst, e_inst0, e_g_c1, e_g_c2, e_g_c3, e_call, e_kd, e_rcv, e_copy, e_throw, e_iret, e_lret, e_aret, e_aret0, e_vret, e_catch, e_out, e_back, e_exit, e_kexit, e_w_cl, e_w_fi, e_w_fl, e_w_fr, e_w_ai, e_w_al, e_w_ar, e_w_cp, e_w_nw, e_w_kx, e_w_fin, g_if_t, g_if_f, g_if_t2, g_if_f2, g_if_n, f_if_t, f_if_f, f_or2_f, f_or2_t, f_or3_s, e_m2i, e_m2l, e_m1l, e_csum0, e_csum1, l_st1, l_st2, l_clr, List.getElem?_cons_zero, List.getElem?_cons_succ, List.set_cons_zero, List.set_cons_succ, List.take_succ_cons, List.take_zero, List.drop_succ_cons, List.drop_zero, List.reverse_cons, List.reverse_nil, List.nil_append, List.cons_append, List.length_cons, List.length_nil, List.map_cons, List.map_nil, List.sum_cons, List.sum_nil, List.mem_cons, List.not_mem_nil, or_false, false_or, or_true, true_or, and_true, true_and, and_false, false_and, not_true_eq_false, not_false_eq_true, Value.category, Option.map_some, Option.map_none, va_rf_some, va_rf_none, p_ok_int, reduceCtorEq, if_true, if_false, Nat.reduceAdd, Nat.reduceSub, Nat.reduceMul, Nat.reduceLeDiff, ↓Nat.reduceEqDiff, ↓reduceIte, Nat.reduceDiv, Nat.reduceMod, Nat.zero_add, Nat.add_zero, Nat.add_left_cancel_iff, Nat.add_right_cancel_iff, Nat.add_eq_left, Nat.left_eq_add, isb_0, isb_1, isb_p, isb_T, isb_F, ↓nI_m1, ↓nI_m2, nI_c0, nI_c1, nI_c2, nI_c3, nI_c4, nI_c5, nI_c6, nI_c7, nI_c8, nI_c9, nI_c10, nI_c11, nI_c12, nI_c13, nI_c15, nI_c16, nI_c17, nI_c18, nI_c20, nI_c24, nI_c25, nI_c31, nI_c32, nI_c44, nI_c48, nI_c54, nI_c57, nI_c59, nI_c60, nI_c63, nI_c74, nI_c75, nI_c97, nI_c99, nI_c100, nI_c122, nI_c144, nI_c200, nI_c255, nI_c270, nI_c288, nI_c1000, nI_c65536, nI_c65537, nI_c1000000, nI_add, pk_mul, pk_sub, nI_clamp, b_in_nI, nI_eq_, nI_le_, nI_lt_, nI_div_, nI_rem_, n_rem, nI_sr, lN_sr, nI_if0, nI_if1, m1_e, m1_e3, m1_e4, m1_l1, m1_l2, m1_l3, m1_l4, m2_e1, m2_e2, m2_m1, m1_m2, p_ok_b, p_ok_b0, p_ok_b1, ↓lN_m1, lN_c0, lN_c1, lN_c2, lN_c20, lN_c32, lN_c74, lN_c75, lN_c100, lN_c200, lN_c65537, lN_add, lN_mul, lN_sub, lN_le_, lN_lt_, lN_eq_, lN_div_, lN_rem_, nI_l_, m1_l, lg_sub, lg_lN, lg_m1, lg_m1', lg_m1_m1, lg_m1r, nI3_le, nI3_e0, nI3_ge, nI3_gt, nI3_lt, nI2_le, nI2_e0, nI2_ge, nI2_gt, nI2_lt, nI4_le, nI4_e0, nI4_ge, nI4_gt, nI4_lt, nI5_le, nI5_e0, nI5_ge, nI5_gt, nI5_lt, o_le_t, o_le_f, o_lt_t, o_lt_f, o_eq_t, o_eq_f, gs_cs_fi, gs_kd_fi, gs_fi_fi, gs_fl_fi, gs_fr_fi, gs_ai_fi, gs_al_fi, gs_ar_fi, gs_sz_fi, gs_sl_fi, gs_cs_fl, gs_kd_fl, gs_fi_fl, gs_fl_fl, gs_fr_fl, gs_ai_fl, gs_al_fl, gs_ar_fl, gs_sz_fl, gs_sl_fl, gs_cs_fr, gs_kd_fr, gs_fi_fr, gs_fl_fr, gs_fr_fr, gs_ai_fr, gs_al_fr, gs_ar_fr, gs_sz_fr, gs_sl_fr, gs_cs_ai, gs_kd_ai, gs_fi_ai, gs_fl_ai, gs_fr_ai, gs_ai_ai, gs_al_ai, gs_ar_ai, gs_sz_ai, gs_sl_ai, gs_cs_al, gs_kd_al, gs_fi_al, gs_fl_al, gs_fr_al, gs_ai_al, gs_al_al, gs_ar_al, gs_sz_al, gs_sl_al, gs_cs_ar, gs_kd_ar, gs_fi_ar, gs_fl_ar, gs_fr_ar, gs_ai_ar, gs_al_ar, gs_ar_ar, gs_sz_ar, gs_sl_ar, gs_cs_n, gs_kd_n, gs_fi_n, gs_fl_n, gs_fr_n, gs_ai_n, gs_al_n, gs_ar_n, gs_sz_n, gs_sl_n, gs_lo_fi, gs_lo_fl, gs_lo_fr, gs_lo_ai, gs_lo_al, gs_lo_ar, gs_lo_n, e_X20_holds_b0, T_K_kd hT, T_K_hold hT, T_K_d7 hT, T_K_ahold hT, T_many hT hw hb ha, hc, hc']
  · have hc' : kSize K b arm ≤ kHold K p := by omega
    simp (disch := omega) only [e_g_ild, e_ild, e_g_lld, e_lld, e_g_ald, e_g_ald0, e_ald, e_g_iinc, e_iinc, e_push, e_ist, e_lst, e_ast, e_ast0, e_i2, e_i2d, e_i1, e_l1, e_l2, e_l2d, e_li, e_i2l, e_l2i, e_lcmp, e_dup, e_pop, e_dup2, e_ieq, e_ine, e_ilt, e_ige, e_igt, e_ile, e_ceq, e_cne, e_clt, e_cge, e_cgt, e_cle, e_ifn, e_ifn0, e_ifnn, e_ifnn0, e_aeq, e_ane, e_sw, e_sw0, e_sw1, e_gfi, e_gfl, e_gfr, e_pfi, e_pfl, e_pfr, e_pfr0, e_iald, e_lald, e_aald, e_aald2, e_iast, e_last, e_aast, e_alen, e_newa, e_new, e_mk0, e_oinit, e_ldcs, e_gst, e_cast, e_cast0, e_inst, e_inst0, e_g_c1, e_g_c2, e_g_c3, e_call, e_kd, e_rcv, e_copy, e_throw, e_iret, e_lret, e_aret, e_aret0, e_vret, e_catch, e_out, e_back, e_exit, e_kexit, e_w_cl, e_w_fi, e_w_fl, e_w_fr, e_w_ai, e_w_al, e_w_ar, e_w_cp, e_w_nw, e_w_kx, e_w_fin, g_if_t, g_if_f, g_if_t2, g_if_f2, g_if_n, f_if_t, f_if_f, f_or2_f, f_or2_t, f_or3_s, e_m2i, e_m2l, e_m1l, e_csum0, e_csum1, l_st1, l_st2, l_clr, List.getElem?_cons_zero, List.getElem?_cons_succ, List.set_cons_zero, List.set_cons_succ, List.take_succ_cons, List.take_zero, List.drop_succ_cons, List.drop_zero, List.reverse_cons, List.reverse_nil, List.nil_append, List.cons_append, List.length_cons, List.length_nil, List.map_cons, List.map_nil, List.sum_cons, List.sum_nil, List.mem_cons, List.not_mem_nil, or_false, false_or, or_true, true_or, and_true, true_and, and_false, false_and, not_true_eq_false, not_false_eq_true, Value.category, Option.map_some, Option.map_none, va_rf_some, va_rf_none, p_ok_int, reduceCtorEq, if_true, if_false, Nat.reduceAdd, Nat.reduceSub, Nat.reduceMul, Nat.reduceLeDiff, ↓Nat.reduceEqDiff, ↓reduceIte, Nat.reduceDiv, Nat.reduceMod, Nat.zero_add, Nat.add_zero, Nat.add_left_cancel_iff, Nat.add_right_cancel_iff, Nat.add_eq_left, Nat.left_eq_add, isb_0, isb_1, isb_p, isb_T, isb_F, ↓nI_m1, ↓nI_m2, nI_c0, nI_c1, nI_c2, nI_c3, nI_c4, nI_c5, nI_c6, nI_c7, nI_c8, nI_c9, nI_c10, nI_c11, nI_c12, nI_c13, nI_c15, nI_c16, nI_c17, nI_c18, nI_c20, nI_c24, nI_c25, nI_c31, nI_c32, nI_c44, nI_c48, nI_c54, nI_c57, nI_c59, nI_c60, nI_c63, nI_c74, nI_c75, nI_c97, nI_c99, nI_c100, nI_c122, nI_c144, nI_c200, nI_c255, nI_c270, nI_c288, nI_c1000, nI_c65536, nI_c65537, nI_c1000000, nI_add, pk_mul, pk_sub, nI_clamp, b_in_nI, nI_eq_, nI_le_, nI_lt_, nI_div_, nI_rem_, n_rem, nI_sr, lN_sr, nI_if0, nI_if1, m1_e, m1_e3, m1_e4, m1_l1, m1_l2, m1_l3, m1_l4, m2_e1, m2_e2, m2_m1, m1_m2, p_ok_b, p_ok_b0, p_ok_b1, ↓lN_m1, lN_c0, lN_c1, lN_c2, lN_c20, lN_c32, lN_c74, lN_c75, lN_c100, lN_c200, lN_c65537, lN_add, lN_mul, lN_sub, lN_le_, lN_lt_, lN_eq_, lN_div_, lN_rem_, nI_l_, m1_l, lg_sub, lg_lN, lg_m1, lg_m1', lg_m1_m1, lg_m1r, nI3_le, nI3_e0, nI3_ge, nI3_gt, nI3_lt, nI2_le, nI2_e0, nI2_ge, nI2_gt, nI2_lt, nI4_le, nI4_e0, nI4_ge, nI4_gt, nI4_lt, nI5_le, nI5_e0, nI5_ge, nI5_gt, nI5_lt, o_le_t, o_le_f, o_lt_t, o_lt_f, o_eq_t, o_eq_f, gs_cs_fi, gs_kd_fi, gs_fi_fi, gs_fl_fi, gs_fr_fi, gs_ai_fi, gs_al_fi, gs_ar_fi, gs_sz_fi, gs_sl_fi, gs_cs_fl, gs_kd_fl, gs_fi_fl, gs_fl_fl, gs_fr_fl, gs_ai_fl, gs_al_fl, gs_ar_fl, gs_sz_fl, gs_sl_fl, gs_cs_fr, gs_kd_fr, gs_fi_fr, gs_fl_fr, gs_fr_fr, gs_ai_fr, gs_al_fr, gs_ar_fr, gs_sz_fr, gs_sl_fr, gs_cs_ai, gs_kd_ai, gs_fi_ai, gs_fl_ai, gs_fr_ai, gs_ai_ai, gs_al_ai, gs_ar_ai, gs_sz_ai, gs_sl_ai, gs_cs_al, gs_kd_al, gs_fi_al, gs_fl_al, gs_fr_al, gs_ai_al, gs_al_al, gs_ar_al, gs_sz_al, gs_sl_al, gs_cs_ar, gs_kd_ar, gs_fi_ar, gs_fl_ar, gs_fr_ar, gs_ai_ar, gs_al_ar, gs_ar_ar, gs_sz_ar, gs_sl_ar, gs_cs_n, gs_kd_n, gs_fi_n, gs_fl_n, gs_fr_n, gs_ai_n, gs_al_n, gs_ar_n, gs_sz_n, gs_sl_n, gs_lo_fi, gs_lo_fl, gs_lo_fr, gs_lo_ai, gs_lo_al, gs_lo_ar, gs_lo_n, e_X20_holds_b0, T_K_kd hT, T_K_hold hT, T_K_d7 hT, T_K_ahold hT, T_many hT hw hb ha, hc, hc']
