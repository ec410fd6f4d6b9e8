set_option maxRecDepth 100000
/-! games, in numbers -/
noncomputable def cif {α : Type} (P : Prop) (a b : α) : α := @ite α P (Classical.propDecidable P) a b
theorem cif_t {α : Type} {P : Prop} {a b : α} (h : P) : cif P a b = a := by simp [cif, h]
theorem cif_f {α : Type} {P : Prop} {a b : α} (h : ¬ P) : cif P a b = b := by simp [cif, h]
def gMv (c e : Nat) : Nat := if c % 2 = 1 then (if e % 2 = 1 then 3 else 0) else (if e % 2 = 1 then 1 else 2)
theorem gMv_lt {c e : Nat} : gMv c e < 4 := by unfold gMv; split <;> split <;> omega
/-- a choice that one has -/
abbrev gOk (K : KN) (b arm p c : Nat) : Prop := c < 2 * kSize K b arm ∧ (c % 2 = 1 ∨ kIs K p ≠ 2)
/-- odds by choices -/
def gO (K : KN) (b d r p q c e what : Nat) : Nat := sOdds K (pMk K b d r p q (c / 2 + 1) (e / 2 + 1) (gMv c e)) what
theorem gO_le {K : KN} {b d r p q c e what : Nat} (hK : K_wf K) (hb : b < kNb K) : gO K b d r p q c e what ≤ 2400 := sOdds_le hK (p := pMk K b d r p q (c / 2 + 1) (e / 2 + 1) (gMv c e)) hb
def gRest (K : KN) (b d r p q c e : Nat) : Prop := (∀ z, gOk K b 0 p z → gO K b d r p q z e 0 ≤ gO K b d r p q c e 0) ∧ (∀ z, gOk K b 1 q z → gO K b d r p q c z 1 ≤ gO K b d r p q c e 1)
def gTold (c : Nat) : Nat := 10 * (c / 2 + 1) + c % 2
/-- a choice of both that is a rest -/
def gV (K : KN) (b d r p q c e : Nat) : Prop := gOk K b 0 p c ∧ gOk K b 1 q e ∧ gRest K b d r p q c e
noncomputable def gStep (V : Nat → Nat → Prop) (s : Nat × Int32) (c e : Nat) : Nat × Int32 := cif (V c e) (s.1 + 1, if s.1 = 0 then nI (100 * gTold c + gTold e) else s.2) s
noncomputable def gRow (V : Nat → Nat → Prop) (s : Nat × Int32) (c : Nat) : Nat → Nat × Int32
  | 0 => s
  | n + 1 => gStep V (gRow V s c n) c n
noncomputable def gAll (V : Nat → Nat → Prop) : Nat → Nat × Int32
  | 0 => (0, m2)
  | n + 1 => gRow V (gAll V n) n 12
theorem gRow_le {V : Nat → Nat → Prop} {s : Nat × Int32} {c : Nat} : ∀ n, (gRow V s c n).1 ≤ s.1 + n
  | 0 => Nat.le_refl _
  | n + 1 => by
    have ih := gRow_le (V := V) (s := s) (c := c) n
    show (gStep V (gRow V s c n) c n).1 ≤ _
    unfold gStep
    by_cases h : V c n
    · rw [cif_t h]; show _ + 1 ≤ _; omega
    · rw [cif_f h]; omega
theorem gAll_le {V : Nat → Nat → Prop} : ∀ n, (gAll V n).1 ≤ 12 * n
  | 0 => Nat.le_refl _
  | n + 1 => by
    have ih := gAll_le (V := V) n
    have := gRow_le (V := V) (s := gAll V n) (c := n) 12
    show (gRow V (gAll V n) n 12).1 ≤ _
    omega
/-- beyond the choices that there are nothing comes -/
theorem gRow_up {V : Nat → Nat → Prop} {s : Nat × Int32} {c n : Nat} (h : ∀ e, n ≤ e → ¬ V c e) : ∀ d, gRow V s c (n + d) = gRow V s c n
  | 0 => rfl
  | d + 1 => by
    have ih := gRow_up (s := s) h d
    show gStep V (gRow V s c (n + d)) c (n + d) = _
    unfold gStep
    rw [cif_f (h _ (by omega)), ih]
theorem gRow_no {V : Nat → Nat → Prop} {s : Nat × Int32} {c : Nat} (h : ∀ e, ¬ V c e) (n : Nat) : gRow V s c n = s := by
  have := gRow_up (V := V) (s := s) (c := c) (n := 0) (fun e _ => h e) n
  rw [Nat.zero_add] at this
  exact this
theorem gAll_up {V : Nat → Nat → Prop} {n : Nat} (h : ∀ c, n ≤ c → ∀ e, ¬ V c e) : ∀ d, gAll V (n + d) = gAll V n
  | 0 => rfl
  | d + 1 => by
    have ih := gAll_up h d
    show gRow V (gAll V (n + d)) (n + d) 12 = _
    rw [gRow_no (h _ (by omega)), ih]
/-- the least of a row, the greatest of those -/
noncomputable def gLeast (K : KN) (b d r p q c : Nat) : Nat → Option Nat
  | 0 => none
  | n + 1 => cif (gOk K b 1 q n) (some (match gLeast K b d r p q c n with
    | none => gO K b d r p q c n 0
    | some v => if gO K b d r p q c n 0 < v then gO K b d r p q c n 0 else v)) (gLeast K b d r p q c n)
noncomputable def gSure (K : KN) (b d r p q : Nat) : Nat → Option Nat
  | 0 => none
  | n + 1 => cif (gOk K b 0 p n) (match gLeast K b d r p q n 12 with
    | none => gSure K b d r p q n
    | some v => some (match gSure K b d r p q n with
      | none => v
      | some w => if w < v then v else w)) (gSure K b d r p q n)
theorem gLeast_le {K : KN} {b d r p q c : Nat} (hK : K_wf K) (hb : b < kNb K) : ∀ {n v : Nat}, gLeast K b d r p q c n = some v → v ≤ 2400
  | 0, v, h => by cases h
  | n + 1, v, h => by
    have h1 := gO_le (d := d) (r := r) (p := p) (q := q) (c := c) (e := n) (what := 0) hK hb
    unfold gLeast at h
    by_cases hc : gOk K b 1 q n
    · rw [cif_t hc] at h
      cases e : gLeast K b d r p q c n with
      | none => rw [e] at h; simp at h; omega
      | some w =>
        have := gLeast_le hK hb e
        rw [e] at h
        simp at h
        split at h <;> omega
    · rw [cif_f hc] at h
      exact gLeast_le hK hb h
theorem gSure_le {K : KN} {b d r p q : Nat} (hK : K_wf K) (hb : b < kNb K) : ∀ {n v : Nat}, gSure K b d r p q n = some v → v ≤ 2400
  | 0, v, h => by cases h
  | n + 1, v, h => by
    unfold gSure at h
    by_cases hc : gOk K b 0 p n
    · rw [cif_t hc] at h
      cases e : gLeast K b d r p q n 12 with
      | none => rw [e] at h; exact gSure_le hK hb h
      | some w =>
        have h1 := gLeast_le hK hb e
        rw [e] at h
        cases e2 : gSure K b d r p q n with
        | none => rw [e2] at h; simp at h; omega
        | some w2 =>
          have := gSure_le hK hb e2
          rw [e2] at h
          simp at h
          split at h <;> omega
    · rw [cif_f hc] at h
      exact gSure_le hK hb h
theorem gLeast_up {K : KN} {b d r p q c n : Nat} (h : 2 * kSize K b 1 ≤ n) : ∀ d', gLeast K b d r p q c (n + d') = gLeast K b d r p q c n
  | 0 => rfl
  | d' + 1 => by
    have ih := gLeast_up (d := d) (r := r) (p := p) (c := c) (q := q) h d'
    show gLeast K b d r p q c ((n + d') + 1) = _
    rw [gLeast, cif_f (fun hc => by have := hc.1; omega), ih]
theorem gSure_up {K : KN} {b d r p q n : Nat} (h : 2 * kSize K b 0 ≤ n) : ∀ d', gSure K b d r p q (n + d') = gSure K b d r p q n
  | 0 => rfl
  | d' + 1 => by
    have ih := gSure_up (d := d) (r := r) (p := p) (q := q) h d'
    show gSure K b d r p q ((n + d') + 1) = _
    rw [gSure, cif_f (fun hc => by have := hc.1; omega), ih]
theorem gLeast_some {K : KN} {b d r p q c : Nat} (h : 2 ≤ 2 * kSize K b 1) : ∀ n, ∃ v, gLeast K b d r p q c (n + 2) = some v
  | 0 => by
    rw [gLeast, cif_t ⟨by omega, Or.inl rfl⟩]
    exact ⟨_, rfl⟩
  | n + 1 => by
    obtain ⟨v, hv⟩ := gLeast_some (d := d) (r := r) (p := p) (c := c) (q := q) h n
    by_cases hc : gOk K b 1 q (n + 2)
    · exact ⟨_, by rw [show n + 1 + 2 = (n + 2) + 1 by omega, gLeast, cif_t hc]⟩
    · exact ⟨v, by rw [show n + 1 + 2 = (n + 2) + 1 by omega, gLeast, cif_f hc]; exact hv⟩
theorem gSure_some {K : KN} {b d r p q : Nat} (h : 2 ≤ 2 * kSize K b 0) (h1 : 2 ≤ 2 * kSize K b 1) : ∀ n, ∃ v, gSure K b d r p q (n + 2) = some v
  | 0 => by
    obtain ⟨v, hv⟩ := gLeast_some (d := d) (r := r) (p := p) (c := 1) (q := q) h1 10
    rw [gSure, cif_t ⟨by omega, Or.inl rfl⟩, hv]
    exact ⟨_, rfl⟩
  | n + 1 => by
    obtain ⟨v, hv⟩ := gSure_some (d := d) (r := r) (p := p) (q := q) h h1 n
    rw [show n + 1 + 2 = (n + 2) + 1 by omega, gSure]
    by_cases hc : gOk K b 0 p (n + 2)
    · rw [cif_t hc]
      obtain ⟨w, hw⟩ := gLeast_some (d := d) (r := r) (p := p) (c := n + 2) (q := q) h1 10
      rw [hw]
      exact ⟨_, rfl⟩
    · exact ⟨v, by rw [cif_f hc]; exact hv⟩
/-- the best choice against a hold that stands, and its odds -/
def gB (K : KN) (b d r p q hq c : Nat) : Nat := sOdds K (pMk K b d r p q (c / 2 + 1) hq (if c % 2 = 1 then 0 else 2)) 0
theorem gB_le {K : KN} {b d r p q hq c : Nat} (hK : K_wf K) (hb : b < kNb K) : gB K b d r p q hq c ≤ 2400 := sOdds_le hK (p := pMk K b d r p q (c / 2 + 1) hq (if c % 2 = 1 then 0 else 2)) hb
noncomputable def gBest (K : KN) (b d r p q hq : Nat) : Nat → Option (Nat × Nat)
  | 0 => none
  | n + 1 => cif (gOk K b 0 p n) (match gBest K b d r p q hq n with
    | none => some (n, gB K b d r p q hq n)
    | some s => if s.2 < gB K b d r p q hq n then some (n, gB K b d r p q hq n) else some s) (gBest K b d r p q hq n)
theorem gBest_le {K : KN} {b d r p q hq : Nat} (hK : K_wf K) (hb : b < kNb K) : ∀ {n : Nat} {s : Nat × Nat}, gBest K b d r p q hq n = some s → s.1 < n ∧ s.2 ≤ 2400
  | 0, s, h => by cases h
  | n + 1, s, h => by
    have h1 := gB_le (d := d) (r := r) (p := p) (q := q) (hq := hq) (c := n) hK hb
    unfold gBest at h
    by_cases hc : gOk K b 0 p n
    · rw [cif_t hc] at h
      cases e : gBest K b d r p q hq n with
      | none => rw [e] at h; simp at h; subst h; exact ⟨Nat.lt_succ_self _, h1⟩
      | some w =>
        have := gBest_le hK hb e
        rw [e] at h
        simp at h
        split at h
        · cases h; exact ⟨Nat.lt_succ_self _, h1⟩
        · cases h; exact ⟨by omega, this.2⟩
    · rw [cif_f hc] at h
      have := gBest_le hK hb h
      exact ⟨by omega, this.2⟩
theorem gBest_up {K : KN} {b d r p q hq n : Nat} (h : 2 * kSize K b 0 ≤ n) : ∀ d', gBest K b d r p q hq (n + d') = gBest K b d r p q hq n
  | 0 => rfl
  | d' + 1 => by
    have ih := gBest_up (d := d) (r := r) (p := p) (q := q) (hq := hq) h d'
    show gBest K b d r p q hq ((n + d') + 1) = _
    rw [gBest, cif_f (fun hc => by have := hc.1; omega), ih]
theorem gBest_some {K : KN} {b d r p q hq : Nat} (h : 2 ≤ 2 * kSize K b 0) : ∀ n, ∃ s, gBest K b d r p q hq (n + 2) = some s
  | 0 => by
    rw [gBest, cif_t ⟨by omega, Or.inl rfl⟩]
    cases gBest K b d r p q hq (0 + 1) with
    | none => exact ⟨_, rfl⟩
    | some s => simp only; split <;> exact ⟨_, rfl⟩
  | n + 1 => by
    obtain ⟨v, hv⟩ := gBest_some (d := d) (r := r) (p := p) (q := q) (hq := hq) h n
    rw [show n + 1 + 2 = (n + 2) + 1 by omega, gBest, hv]
    by_cases hc : gOk K b 0 p (n + 2)
    · rw [cif_t hc]; simp only; split <;> exact ⟨_, rfl⟩
    · exact ⟨v, by rw [cif_f hc]⟩
/-- nothing breaks: three bones, or it bends -/
theorem sComes_no {K : KN} {p : PN} {f : FW} (h : (sComes K p f).2 = none) : 2 ≤ (sComes K p f).1 := by
  unfold sComes at h ⊢
  split
  · decide
  · rename_i hc
    rw [if_neg hc] at h
    unfold sHow at h ⊢
    split
    · decide
    · rename_i e1 e2; rw [e1, e2] at h; simp at h
    · rename_i e1 e2; rw [e1, e2] at h; simp at h
    · rename_i e1 e2
      rw [e1, e2] at h
      simp only at h
      split at h
      · cases h
      · rename_i c1
        split at h
        · cases h
        · rename_i c2
          rw [if_neg c1, if_neg c2]
          decide
theorem sComes_some {K : KN} {p : PN} {f : FW} {a j : Nat} (hK : K_wf K) (hw : P_wf K p) (h : (sComes K p f).2 = some (a, j)) : (sComes K p f).1 < 2 ∧ a < 2 ∧ j < 6 := by
  have s0 := W_b_size (K_wf_b hK _ (P_wf_b hw)) 0 (by decide)
  have s1 := W_b_size (K_wf_b hK _ (P_wf_b hw)) 1 (by decide)
  unfold sComes at h ⊢
  split
  · rename_i hc
    rw [if_pos hc] at h
    cases h
  · rename_i hc
    rw [if_neg hc] at h
    unfold sHow at h ⊢
    cases e1 : sWeak K p f 0 (kSize K (pB p) 0) with
    | none =>
      cases e2 : sWeak K p f 1 (kSize K (pB p) 1) with
      | none => rw [e1, e2] at h; cases h
      | some i =>
        have := sWeak_lt e2
        rw [e1, e2] at h
        cases h
        exact ⟨Nat.lt_succ_of_le (Nat.zero_le _), by decide, by omega⟩
    | some i0 =>
      have l1 := sWeak_lt e1
      cases e2 : sWeak K p f 1 (kSize K (pB p) 1) with
      | none =>
        rw [e1, e2] at h
        cases h
        exact ⟨Nat.lt_succ_self 1, by decide, by omega⟩
      | some i =>
        have l2 := sWeak_lt e2
        rw [e1, e2] at h
        simp only at h ⊢
        split at h
        · rename_i c1
          cases h
          rw [if_pos c1]
          exact ⟨Nat.lt_succ_self 1, by decide, by omega⟩
        · rename_i c1
          rw [if_neg c1]
          split at h
          · rename_i c2
            cases h
            rw [if_pos c2]
            exact ⟨Nat.lt_succ_of_le (Nat.zero_le _), by decide, by omega⟩
          · cases h
