set_option maxRecDepth 100000
/-! turns: pairs by numbers; the first row -/
def pgo : Nat → Nat → Nat → Nat × Nat
  | 0, p, _ => (p, p + 1)
  | n + 1, p, l => if l < n then (p, p + 1 + l) else pgo n (p + 1) (l - n)
def tri : Nat → Nat
  | 0 => 0
  | n + 1 => tri n + n
def pLo (n i : Nat) : Nat := (pgo n 0 i).1
def pHi (n i : Nat) : Nat := (pgo n 0 i).2
def pIx (n p q : Nat) : Nat := tri n - tri (n - p) + (q - p - 1)
theorem p_ix_ : ∀ n, n < 7 → ∀ p, p < n → ∀ q, q < n → p < q → pLo n (pIx n p q) = p ∧ pHi n (pIx n p q) = q ∧ pIx n p q < tri n := by decide +kernel
theorem p_lh_ : ∀ n, n < 7 → ∀ i, i < tri n → pLo n i < pHi n i ∧ pHi n i < n := by decide +kernel
theorem p_z_ : ∀ n, n < 7 → ∀ p, p < n → pIx n p n = pIx n (p + 1) (p + 2) := by decide +kernel
theorem p_e_ : ∀ n, n < 7 → pIx n n (n + 1) = tri n := by decide +kernel
theorem p_s_ : ∀ n, n < 7 → pIx n 0 1 = 0 := by decide +kernel
theorem tri_n_ : ∀ n, n < 7 → n * (n - 1) / 2 = tri n ∧ tri n ≤ 15 := by decide +kernel
def pIn (n i p : Nat) : Nat := if p = pLo n i ∨ p = pHi n i then 1 else 0
theorem pIn_le {n i p : Nat} : pIn n i p ≤ 1 := by unfold pIn; split <;> omega
def tSum (f : Nat → Nat) : Nat → Nat
  | 0 => 0
  | n + 1 => tSum f n + f n
theorem p_two_ : ∀ n, n < 7 → ∀ i, i < tri n → tSum (pIn n i) n = 2 := by decide +kernel
def tcnt (n : Nat) (s : Nat → Nat) : Nat → Nat → Nat
  | 0, _ => 0
  | k + 1, p => tcnt n s k p + pIn n (s k) p
theorem tcnt_le {n p : Nat} {s : Nat → Nat} : ∀ k, tcnt n s k p ≤ k
  | 0 => Nat.le_refl _
  | k + 1 => by
    have := tcnt_le (n := n) (p := p) (s := s) k
    have := pIn_le (n := n) (i := s k) (p := p)
    unfold tcnt
    omega
theorem tcnt_cong {n p : Nat} {s t : Nat → Nat} : ∀ k, (∀ j, j < k → s j = t j) → tcnt n s k p = tcnt n t k p
  | 0, _ => rfl
  | k + 1, h => by
    unfold tcnt
    rw [tcnt_cong k (fun j hj => h j (by omega)), h k (by omega)]
def tUp (s : Nat → Nat) (k i : Nat) : Nat → Nat := fun j => if j = k then i else s j
theorem tUp_k {s : Nat → Nat} {k i : Nat} : tUp s k i k = i := if_pos rfl
theorem tUp_j {s : Nat → Nat} {k i j : Nat} (h : j < k) : tUp s k i j = s j := if_neg (by omega)
theorem tcnt_up {n p k i : Nat} {s : Nat → Nat} : tcnt n (tUp s k i) (k + 1) p = tcnt n s k p + pIn n i p := by
  show tcnt n (tUp s k i) k p + pIn n (tUp s k i k) p = _
  rw [tUp_k, tcnt_cong k (fun j hj => tUp_j hj)]
def tMost (n w : Nat) : Nat := (2 * w + n - 1) / n
abbrev tCan (n w : Nat) (s : Nat → Nat) (k p : Nat) : Prop := tcnt n s k p < tMost n w ∧ (k = 0 ∨ (pLo n (s (k - 1)) ≠ p ∧ pHi n (s (k - 1)) ≠ p))
abbrev tEven (n w : Nat) (s : Nat → Nat) : Prop := ∀ p, p < n → 2 * w / n ≤ tcnt n s w p
abbrev RS : Type := Option (Nat → Nat)
def tFnd (f : Nat → RS) : Nat → Nat → RS
  | 0, _ => none
  | m + 1, i => match f i with
    | some r => some r
    | none => tFnd f m (i + 1)
theorem tFnd_n {f : Nat → RS} {m i : Nat} (h : f i = none) : tFnd f (m + 1) i = tFnd f m (i + 1) := by
  show (match f i with | some r => some r | none => tFnd f m (i + 1)) = _
  rw [h]
theorem tFnd_s {f : Nat → RS} {m i : Nat} {r : Nat → Nat} (h : f i = some r) : tFnd f (m + 1) i = some r := by
  show (match f i with | some r => some r | none => tFnd f m (i + 1)) = _
  rw [h]
def tSol (n w : Nat) : Nat → Nat → (Nat → Nat) → RS
  | 0, _, s => if tEven n w s then some s else none
  | d + 1, k, s => tFnd (fun i => if tCan n w s k (pLo n i) ∧ tCan n w s k (pHi n i) then tSol n w d (k + 1) (tUp s k i) else none) (tri n) 0
def tF (n w d k : Nat) (s : Nat → Nat) (i : Nat) : RS := if tCan n w s k (pLo n i) ∧ tCan n w s k (pHi n i) then tSol n w d (k + 1) (tUp s k i) else none
theorem tSol_s {n w d k : Nat} {s : Nat → Nat} : tSol n w (d + 1) k s = tFnd (tF n w d k s) (tri n) 0 := rfl
/-- what the search finds begins as it was told, and its numbers are pairs -/
theorem tSol_lt {n w : Nat} : ∀ (d k : Nat) (s r : Nat → Nat), k + d = w → (∀ j, j < k → s j < tri n) → tSol n w d k s = some r → ∀ j, j < w → r j < tri n
  | 0, k, s, r, hk, hs, h => by
    unfold tSol at h
    by_cases e : tEven n w s
    · rw [if_pos e] at h
      cases h
      intro j hj
      exact hs j (by omega)
    · rw [if_neg e] at h
      cases h
  | d + 1, k, s, r, hk, hs, h => by
    rw [tSol_s] at h
    have go : ∀ m i, i + m = tri n → tFnd (tF n w d k s) m i = some r → ∀ j, j < w → r j < tri n := by
      intro m
      induction m with
      | zero => intro i _ h; cases h
      | succ m ih =>
        intro i hi h
        cases e : tF n w d k s i with
        | none => rw [tFnd_n e] at h; exact ih (i + 1) (by omega) h
        | some r' =>
          rw [tFnd_s e] at h
          cases h
          unfold tF at e
          by_cases e2 : tCan n w s k (pLo n i) ∧ tCan n w s k (pHi n i)
          · rw [if_pos e2] at e
            refine tSol_lt d (k + 1) _ _ (by omega) (fun j hj => ?_) e
            unfold tUp
            split
            · omega
            · exact hs j (by omega)
          · rw [if_neg e2] at e
            cases e
    exact go _ _ (by omega) h
/-! even, and fair -/
def fMx (f : Nat → Nat) : Nat → Nat
  | 0 => 0
  | n + 1 => if fMx f n < f n then f n else fMx f n
def fMn (f : Nat → Nat) : Nat → Nat
  | 0 => 9
  | n + 1 => if f n < fMn f n then f n else fMn f n
theorem fMx_ge {f : Nat → Nat} : ∀ n p, p < n → f p ≤ fMx f n
  | n + 1, p, h => by
    have ih : p < n → f p ≤ fMx f n := fMx_ge n p
    unfold fMx
    by_cases e : p = n
    · subst e; split <;> omega
    · have := ih (by omega)
      split <;> omega
theorem fMx_le {f : Nat → Nat} {B : Nat} : ∀ n, (∀ p, p < n → f p ≤ B) → fMx f n ≤ B
  | 0, _ => Nat.zero_le _
  | n + 1, h => by
    have ih := fMx_le n (fun p hp => h p (by omega))
    have := h n (by omega)
    unfold fMx
    split <;> omega
theorem fMn_le {f : Nat → Nat} : ∀ n p, p < n → fMn f n ≤ f p
  | n + 1, p, h => by
    have ih : p < n → fMn f n ≤ f p := fMn_le n p
    unfold fMn
    by_cases e : p = n
    · subst e; split <;> omega
    · have := ih (by omega)
      split <;> omega
theorem fMn_ge {f : Nat → Nat} {B : Nat} (hB : B ≤ 9) : ∀ n, (∀ p, p < n → B ≤ f p) → B ≤ fMn f n
  | 0, _ => hB
  | n + 1, h => by
    have ih := fMn_ge hB n (fun p hp => h p (by omega))
    have := h n (by omega)
    unfold fMn
    split <;> omega
theorem fMn9 {f : Nat → Nat} : ∀ n, fMn f n ≤ 9
  | 0 => Nat.le_refl _
  | n + 1 => by
    have ih := fMn9 (f := f) n
    unfold fMn
    split <;> omega
theorem tSum_le {f : Nat → Nat} {B : Nat} : ∀ n, (∀ p, p < n → f p ≤ B) → tSum f n ≤ n * B
  | 0, _ => Nat.zero_le _
  | n + 1, h => by
    have ih := tSum_le n (fun p hp => h p (by omega))
    have := h n (by omega)
    unfold tSum
    rw [Nat.succ_mul]
    omega
theorem tSum_lt {f : Nat → Nat} {B : Nat} : ∀ n, (∀ p, p < n → f p ≤ B) → ∀ p, p < n → f p < B → tSum f n < n * B
  | n + 1, h, p, hp, hl => by
    have ih := tSum_le n (fun p hp => h p (by omega))
    have ih2 : p < n → tSum f n < n * B := fun q => tSum_lt n (fun p hp => h p (by omega)) p q hl
    have := h n (by omega)
    unfold tSum
    rw [Nat.succ_mul]
    by_cases e : p = n
    · subst e; omega
    · have := ih2 (by omega); omega
theorem tSum_add {f g : Nat → Nat} : ∀ n, tSum (fun p => f p + g p) n = tSum f n + tSum g n
  | 0 => rfl
  | n + 1 => by
    have := tSum_add (f := f) (g := g) n
    unfold tSum
    omega
theorem tSum_0 : ∀ n, tSum (fun _ => 0) n = 0
  | 0 => rfl
  | n + 1 => by
    have := tSum_0 n
    unfold tSum
    omega
theorem tSum_tcnt {n : Nat} {s : Nat → Nat} (hn : n < 7) : ∀ k, (∀ j, j < k → s j < tri n) → tSum (tcnt n s k) n = 2 * k
  | 0, _ => tSum_0 n
  | k + 1, h => by
    have ih := tSum_tcnt hn k (fun j hj => h j (by omega))
    have e : tcnt n s (k + 1) = fun p => tcnt n s k p + pIn n (s k) p := rfl
    rw [e, tSum_add, ih, p_two_ n hn _ (h k (by omega))]
    omega
theorem tMost_le {n w : Nat} (h2 : 2 ≤ n) (hn : n < 7) (hw : w ≤ 9) : tMost n w ≤ 2 * w / n + 1 ∧ n * (2 * w / n) ≤ 2 * w ∧ 2 * w / n ≤ 9 ∧ tMost n w ≤ 9 := by
  unfold tMost
  have : n = 2 ∨ n = 3 ∨ n = 4 ∨ n = 5 ∨ n = 6 := by omega
  rcases this with rfl | rfl | rfl | rfl | rfl <;> omega
theorem fair_even {n w : Nat} {s : Nat → Nat} (h2 : 2 ≤ n) (hn : n < 7) (hw : w ≤ 9) (hs : ∀ j, j < w → s j < tri n) (hm : ∀ p, p < n → tcnt n s w p ≤ tMost n w) : (fMx (tcnt n s w) n ≤ fMn (tcnt n s w) n + 1) = tEven n w s := by
  obtain ⟨m1, m2, m3, m4⟩ := tMost_le h2 hn hw
  apply propext
  constructor
  · intro h p hp
    refine Decidable.byContradiction (fun hc => ?_)
    have a1 := fMn_le (f := tcnt n s w) n p hp
    have a2 := tSum_lt (f := tcnt n s w) (B := 2 * w / n) n (fun q hq => by have := fMx_ge (f := tcnt n s w) n q hq; omega) p hp (by omega)
    rw [tSum_tcnt hn w hs] at a2
    omega
  · intro h
    have a1 := fMx_le (f := tcnt n s w) (B := 2 * w / n + 1) n (fun p hp => by have := hm p hp; omega)
    have a2 := fMn_ge (f := tcnt n s w) (B := 2 * w / n) m3 n h
    omega
