/-! an evaluation ends, and ends well -/
def wp {R : Type} (o : Option R) (Q : R → Prop) : Prop := ∃ r, o = some r ∧ Q r
theorem wp_some {R : Type} {r : R} {Q : R → Prop} : wp (some r) Q = Q r := propext ⟨fun ⟨_, e, q⟩ => by cases e; exact q, fun q => ⟨_, rfl, q⟩⟩
theorem wp_map {R R' : Type} {o : Option R} {f : R → R'} {Q : R' → Prop} : wp (o.map f) Q = wp o (fun r => Q (f r)) := by
  apply propext
  constructor
  · rintro ⟨r, e, q⟩
    cases o with
    | none => cases e
    | some x => cases e; exact ⟨x, rfl, q⟩
  · rintro ⟨r, rfl, q⟩
    exact ⟨f r, rfl, q⟩
theorem wp_mono {R : Type} {o : Option R} {P Q : R → Prop} (h : wp o P) (hq : ∀ r, P r → Q r) : wp o Q := by
  obtain ⟨r, e, p⟩ := h
  exact ⟨r, e, hq r p⟩
/-- an answer, and what holds of the heap -/
def Rt (v : Option Value) (P : AH → Prop) : OO → Prop := fun r => ∃ h', r = (.inl v, h') ∧ P h'
abbrev Ev (o : Option OO) (v : Option Value) (P : AH → Prop) : Prop := wp o (Rt v P)
/-- the heap behind some writes gets a name -/
theorem wp_st {R : Type} {kx : KX R} {k : KK R} {L : LL} {S : SS} {F : FF} {av : List Value} {h' : AH} {Q : R → Prop} (P : AH → Prop) (hf : P h') (hk : ∀ h1, P h1 → wp (g_call kx k L S (F av h1)) Q) : wp (g_call kx k L S (F av h')) Q := hk h' hf
/-- on with a loop, or out of it -/
def Nx {R : Type} (I : LL → AH → Prop) (Q : R → Prop) : L_S ⊕ R → Prop := fun r => (∃ L' h', r = .inl (L', [], h') ∧ I L' h') ∨ ∃ x, r = .inr x ∧ Q x
section WPS
variable {R : Type} {c : Prop} {k k1 k2 : KK R} {kx : KX R} {L : LL} {S : SS} {h : AH} {Q : R → Prop} {o : Option OO} {v w : Option Value} {P : AH → Prop} {r : R}
theorem wp_if {i : Decidable c} (h1 : c → wp (k1 L S h) Q) (h2 : ¬ c → wp (k2 L S h) Q) : wp (@g_if R c i k1 k2 L S h) Q := by
  by_cases hc : c
  · rw [g_if_pos hc]; exact h1 hc
  · rw [g_if_neg hc]; exact h2 hc
theorem eq_if {i : Decidable c} (h1 : c → k1 L S h = some r) (h2 : ¬ c → k2 L S h = some r) : @g_if R c i k1 k2 L S h = some r := by
  by_cases hc : c
  · rw [g_if_pos hc]; exact h1 hc
  · rw [g_if_neg hc]; exact h2 hc
theorem wp_call {P : OO → Prop} (hF : wp o P) (hk : ∀ r, P r → wp (g_call kx k L S (some r)) Q) : wp (g_call kx k L S o) Q := by
  obtain ⟨r, rfl, p⟩ := hF
  exact hk r p
theorem ev_call (hF : Ev o v P) (hk : ∀ h', P h' → wp (g_call kx k L S (some (.inl v, h'))) Q) : wp (g_call kx k L S o) Q := by
  obtain ⟨_, rfl, h', rfl, p⟩ := hF
  exact hk h' p
theorem ex_call (hF : ∃ h', o = some (.inl v, h') ∧ P h') (hk : ∀ h', P h' → wp (g_call kx k L S (some (.inl v, h'))) Q) : wp (g_call kx k L S o) Q := by
  obtain ⟨h', rfl, p⟩ := hF
  exact hk h' p
theorem ev_ret {P : AH → Prop} (e : v = w) (p : P h) : Rt w P (.inl v, h) := ⟨h, by rw [e], p⟩
theorem ev_iff {P : AH → Prop} : Ev o v P ↔ ∃ h', o = some (.inl v, h') ∧ P h' := by
  constructor
  · rintro ⟨_, rfl, h', rfl, p⟩; exact ⟨h', rfl, p⟩
  · rintro ⟨h', rfl, p⟩; exact ⟨_, rfl, h', rfl, p⟩
theorem ev_to {P P' : AH → Prop} (h : Ev o v P) (e : v = w) (hp : ∀ h', P h' → P' h') : Ev o w P' := by
  obtain ⟨_, rfl, h', rfl, p⟩ := h
  exact ⟨_, rfl, h', by rw [e], hp _ p⟩
theorem nx_back {I : LL → AH → Prop} {R : Type} {Q : R → Prop} (p : I L h) : Nx I Q (.inl (L, [], h)) := Or.inl ⟨L, h, rfl, p⟩
theorem nx_exit {I : LL → AH → Prop} {R : Type} {Q : R → Prop} {x : R} (p : Q x) : Nx I Q (.inr x) := Or.inr ⟨x, rfl, p⟩
theorem wp_nx {R : Type} {o : Option (L_S ⊕ R)} {I : LL → AH → Prop} {Q : R → Prop} (h : wp o (Nx I fun _ => False)) : wp o (Nx I Q) := by
  refine wp_mono h ?_
  rintro r (⟨L', h', rfl, q⟩ | ⟨_, _, q⟩)
  · exact nx_back q
  · exact q.elim
/-- a loop of n rounds at most -/
theorem wp_loop {B : KK (L_S ⊕ R)} (I : Nat → LL → AH → Prop) {n : Nat} (hs : ∀ i L h, i < n → I i L h → wp (B L [] h) (Nx (I (i + 1)) Q)) (he : ∀ L h, I n L h → wp (B L [] h) (Nx (fun _ _ => False) Q)) :
    ∀ (d i : Nat) (L : LL) (h : AH), i + d = n → I i L h → wp (op_loop B L [] h) Q
  | 0, i, L, h, hi, hI => by
    have : i = n := by omega
    subst this
    obtain ⟨r, e, q⟩ := he L h hI
    rcases q with ⟨_, _, _, q⟩ | ⟨x, rfl, q⟩
    · exact q.elim
    · refine ⟨x, ?_, q⟩
      unfold op_loop
      rw [lp_w_eq]
      simp only [e]
  | d + 1, i, L, h, hi, hI => by
    obtain ⟨r, e, q⟩ := hs i L h (by omega) hI
    rcases q with ⟨L', h', rfl, q⟩ | ⟨x, rfl, q⟩
    · obtain ⟨r', e', q'⟩ := wp_loop I hs he d (i + 1) L' h' (by omega) q
      refine ⟨r', ?_, q'⟩
      unfold op_loop at e' ⊢
      rw [lp_w_eq]
      simp only [e]
      exact e'
    · refine ⟨x, ?_, q⟩
      unfold op_loop
      rw [lp_w_eq]
      simp only [e]
/-- the same from the start -/
theorem wp_for {B : KK (L_S ⊕ R)} (n : Nat) (I : Nat → LL → AH → Prop) (h0 : I 0 L h) (hs : ∀ i L h, i < n → I i L h → wp (B L [] h) (Nx (I (i + 1)) Q)) (he : ∀ L h, I n L h → wp (B L [] h) (Nx (fun _ _ => False) Q)) : wp (op_loop B L [] h) Q :=
  wp_loop I hs he n 0 L h (by omega) h0
/-- a loop by a measure that falls -/
theorem wp_wh {B : KK (L_S ⊕ R)} (I : Nat → LL → AH → Prop) (hs : ∀ m L h, I m L h → wp (B L [] h) (Nx (fun L' h' => ∃ m', m' < m ∧ I m' L' h') Q)) : ∀ (m : Nat) (L : LL) (h : AH), I m L h → wp (op_loop B L [] h) Q := by
  intro m
  induction m using Nat.strongRecOn with
  | _ m ih =>
    intro L h hI
    obtain ⟨r, e, q⟩ := hs m L h hI
    rcases q with ⟨L', h', rfl, m', hm, q⟩ | ⟨x, rfl, q⟩
    · obtain ⟨r', e', q'⟩ := ih m' hm L' h' q
      refine ⟨r', ?_, q'⟩
      unfold op_loop at e' ⊢
      rw [lp_w_eq]
      simp only [e]
      exact e'
    · refine ⟨x, ?_, q⟩
      unfold op_loop
      rw [lp_w_eq]
      simp only [e]
end WPS
