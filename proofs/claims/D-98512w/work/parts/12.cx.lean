/-! What is carried along: tables, statics, strings; the abstract heap against the machine's; a context of a walk; a block of code against the function that it computes -/
abbrev GG : Type := va_G × (Nat → ClassId) × (Nat × (Nat → Nat) × (Nat → Option Nat)) × (Nat → Option (Nat × Nat × (Nat → Int32)))
abbrev g_lo (G : GG) : Nat := G.2.2.1.1
abbrev g_A (G : GG) : Nat → Prop := fun q => G.2.2.1.1 ≤ q
def TYS : List FieldType := [.int, .byte, .char, .boolean, .long, .object "LongerHalf$Person", .object "LongerHalf$Drawer", .object "LongerHalf$Bone"]
def g_tys (G : GG) : List (ClassId × FieldType) := TYS.zipIdx.map fun q => (G.2.1 (q.2 + 1), q.1)
theorem g_tys_at (G : GG) {i : Nat} {ty : FieldType} (h : TYS[i]? = some ty) : (g_tys G)[i]? = some (G.2.1 (i + 1), ty) := by
  unfold g_tys
  rw [List.getElem?_map, List.getElem?_zipIdx, h]
  simp
def isNW : Cond → Bool
  | .fieldLinkNest .. => true
  | .methodLinkNest .. => true
  | .castable .. => true
  | .declares .. => true
  | _ => false
theorem nw_warm {w : Cond} (hw : isNW w = true) {s U : State} (hW : s.WarmedH U.vm) (h : va_Nw w s) : va_Nw w U := by
  cases w <;> first | exact va_Nw.warmF hW h | exact va_Nw.warmM hW h | exact va_Nw.warmC hW h | exact va_Nw.warmD hW h | cases hw
theorem nw_use {w : Cond} (hw : isNW w = true) {A : Array Value} {U : State} (h : va_Nw w U) : w.before A U = true := by
  cases w <;> first | exact va_Nw.use rfl h | cases hw
def STV : List (String × String × String × Value) := [("java/lang/String", "COMPACT_STRINGS", "Z", .int 1), ("java/lang/StringUTF16", "$assertionsDisabled", "Z", .int 1), ("java/lang/StringUTF16", "HI_BYTE_SHIFT", "I", .int 0), ("java/lang/StringUTF16", "LO_BYTE_SHIFT", "I", .int 8)]
def STQ : List (String × String × String) := [("java/lang/Throwable", "UNASSIGNED_STACK", "[Ljava/lang/StackTraceElement;"), ("java/lang/Throwable", "SUPPRESSED_SENTINEL", "Ljava/util/List;"), ("jdk/internal/util/Preconditions", "SIOOBE_FORMATTER", "Ljava/util/function/BiFunction;")]
def NCS : List (String × String) := [("LongerHalf$Hen", "LongerHalf$Person"), ("LongerHalf$Goose", "LongerHalf$Person"), ("LongerHalf$Boiled", "LongerHalf$Person")]
def AOS : List String := ["LongerHalf$Person", "LongerHalf$Drawer", "LongerHalf$Bone"]
/-- an array of narrow ints that was there from the start -/
def O_ld (A : Nat → Prop) (a t n : Nat) (f : Nat → Int32) (U : State) (H : Heap) : Prop := ¬ A a ∧ 1 ≤ t ∧ t ≤ 4 ∧ ∃ (cell : Cell) (ty : FieldType), H[a]? = some cell ∧ TYS[t - 1]? = some ty ∧ U.isArrayOf cell ty ∧ cell.vm ≠ .unknown ∧ n ≤ cell.slots.size ∧ cell.slots.size.toInt32 = Int32.ofNat n ∧ ∀ j : Nat, j < n → cell.slots[j]? = some (.int (f j))
theorem O_ld.moved {A : Nat → Prop} {a t n : Nat} {f : Nat → Int32} {u U : State} {H : Heap} (hvm : u.vm.Alike U.vm) (h : O_ld A a t n f u H) : O_ld A a t n f U H := by
  obtain ⟨h1, h2, h3, cell, ty, h4, h5, h6, h7⟩ := h
  exact ⟨h1, h2, h3, cell, ty, h4, h5, State.isArrayOf_alike hvm h6, h7⟩
theorem O_ld.kept {A : Nat → Prop} {a t n : Nat} {f : Nat → Int32} {U : State} {H H1 : Heap} (h : O_ld A a t n f U H) (hq : ∀ a : Nat, a < H.size → ¬ A a → H1[a]? = H[a]?) : O_ld A a t n f U H1 := by
  obtain ⟨h1, h2, h3, cell, ty, h4, h7⟩ := h
  exact ⟨h1, h2, h3, cell, ty, by rw [hq a (Array.getElem?_eq_some_iff.mp h4).1 h1]; exact h4, h7⟩
def K_F (G : GG) (U : State) (H : Heap) : Prop :=
  va_K G.1 CLS (g_tys G) U ∧ (∀ w ∈ lw_tbl, isNW w = true → va_Nw w U) ∧
  (∀ r ∈ STV, va_Z r.1 r.2.1 r.2.2.1 r.2.2.2 (g_A G) U H) ∧
  (∀ (i : Nat) (r : String × String × String), STQ[i]? = some r → va_Z r.1 r.2.1 r.2.2 (va_rf (G.2.2.1.2.2 i)) (g_A G) U H) ∧
  (∀ (i : Nat) (r : String × String × String), i < 2 → STQ[i]? = some r → vx_L r.1 r.2.1 r.2.2 (g_A G) U H) ∧
  (∀ r ∈ STX, vk_R r.1 r.2.1 r.2.2.1 (G.2.2.1.2.1 r.2.2.2) U) ∧ (∀ C ∈ AOS, va_AO C U) ∧ (∀ q ∈ NCS, va_Nc q.1 q.2 U) ∧
  (∀ a t n f, G.2.2.2 a = some (t, n, f) → O_ld (g_A G) a t n f U H)
theorem K_F.moved {G : GG} {s U : State} {H : Heap} (hW : s.WarmedH U.vm) (h : K_F G s H) : K_F G U H :=
  ⟨va_K.moved hW.alike h.1, fun w hw hn => nw_warm hn hW (h.2.1 w hw hn), fun r hr => va_Z.moved hW.alike (h.2.2.1 r hr), fun i r hr => va_Z.moved hW.alike (h.2.2.2.1 i r hr), fun i r hi hr => vx_L.moved hW.alike (h.2.2.2.2.1 i r hi hr), fun r hr => vk_R.warm hW (h.2.2.2.2.2.1 r hr), fun C hc => va_AO.moved hW.alike (h.2.2.2.2.2.2.1 C hc), fun q hq => va_Nc.moved hW.alike (h.2.2.2.2.2.2.2.1 q hq), fun a t n f hq => (h.2.2.2.2.2.2.2.2 a t n f hq).moved hW.alike⟩
theorem K_F.kept {G : GG} {U : State} {H H1 : Heap} (h : K_F G U H) (hq : ∀ a : Nat, a < H.size → ¬ g_A G a → H1[a]? = H[a]?) : K_F G U H1 :=
  ⟨h.1, h.2.1, fun r hr => va_Z.kept (h.2.2.1 r hr) hq, fun i r hr => va_Z.kept (h.2.2.2.1 i r hr) hq, fun i r hi hr => vx_L.kept (h.2.2.2.2.1 i r hi hr) hq, h.2.2.2.2.2.1, h.2.2.2.2.2.2.1, h.2.2.2.2.2.2.2.1, fun a t n f hh => (h.2.2.2.2.2.2.2.2 a t n f hh).kept hq⟩
/-- an object's fields as values -/
def o_val (h : AH) (ci a k : Nat) : Value := match (KEYS ci)[k]? with
  | some (key, 0) => .int (a_fi h key a)
  | some (key, 1) => .long (a_fl h key a)
  | some (key, _) => va_rf (a_fr h key a)
  | none => .null
/-- an object, whole; new ones bear no data of the machine's -/
def o_B (lo o : Nat) (cC : ClassId) (N : Nat) (iS : Nat → Nat) (H : Heap) (V : Nat → Value) : Prop := ∃ cell : Cell, H[o]? = some cell ∧ cell.cls = cC ∧ (lo ≤ o → cell.vm = .none) ∧ cell.vm.isStatics = false ∧ cell.vm ≠ .unknown ∧ ∀ k, k < N → cell.slots[iS k]? = some (V k)
theorem o_B.kept {lo o : Nat} {cC : ClassId} {N : Nat} {iS : Nat → Nat} {H H1 : Heap} {V : Nat → Value} (h : o_B lo o cC N iS H V) (h1 : H1[o]? = H[o]?) : o_B lo o cC N iS H1 V := by
  obtain ⟨cell, q, r⟩ := h
  exact ⟨cell, by rw [h1]; exact q, r⟩
theorem o_B.to {lo o : Nat} {cC : ClassId} {N : Nat} {iS : Nat → Nat} {H : Heap} {V V' : Nat → Value} (h : o_B lo o cC N iS H V) (hv : ∀ k, k < N → V k = V' k) : o_B lo o cC N iS H V' := by
  obtain ⟨cell, q, r1, r2, r3, r4, r5⟩ := h
  exact ⟨cell, q, r1, r2, r3, r4, fun k hk => by rw [← hv k hk]; exact r5 k hk⟩
theorem o_B.ofT {lo o : Nat} {cC : ClassId} {N : Nat} {iS : Nat → Nat} {H : Heap} {V : Nat → Value} (h : t_OB o cC N iS H V) : o_B lo o cC N iS H V := by
  obtain ⟨cell, q, r1, r2, r3⟩ := h
  exact ⟨cell, q, r1, fun _ => r2, by rw [r2]; rfl, by rw [r2]; exact (fun h => by cases h), r3⟩
/-- the cell at an address is what its kind says -/
def a_at (G : GG) (h : AH) (a : Nat) (H : Heap) : Prop :=
  (1 ≤ (a_kd h a).1 ∧ (a_kd h a).1 ≤ 4 → H[a]? = some (vp_cell (G.2.1 (a_kd h a).1) ((a_kd h a).2, .inl (a_ai h a)))) ∧
  ((a_kd h a).1 = 5 → H[a]? = some (vp_cell (G.2.1 5) ((a_kd h a).2, .inr (.inl (a_al h a))))) ∧
  (6 ≤ (a_kd h a).1 ∧ (a_kd h a).1 ≤ 9 → H[a]? = some (vp_cell (G.2.1 (a_kd h a).1) ((a_kd h a).2, .inr (.inr (.inr (.inr (a_ar h a))))))) ∧
  (∀ ci, (a_kd h a).1 = ci + 10 → ci ≤ 18 → ∃ q, CLS[ci]? = some q ∧ o_B (g_lo G) a (G.1.1 ci) q.2.2 (G.1.2 ci) H (o_val h ci a)) ∧
  (31 ≤ (a_kd h a).1 → G.2.2.2 a = some ((a_kd h a).1 - 30, (a_kd h a).2, a_ai h a))
def R_p (G : GG) (h : AH) (H : Heap) : Prop := a_cs h = G.2.2.1 ∧ a_sz h = H.size ∧ ∀ a, a_at G h a H
theorem a_at.to {G : GG} {h h1 : AH} {a : Nat} {H H1 : Heap} (q : a_at G h a H) (hH : H1[a]? = H[a]?) (hk : a_kd h1 a = a_kd h a) (hfi : ∀ k, a_fi h1 k a = a_fi h k a) (hfl : ∀ k, a_fl h1 k a = a_fl h k a) (hfr : ∀ k, a_fr h1 k a = a_fr h k a) (hai : a_ai h1 a = a_ai h a) (hal : a_al h1 a = a_al h a) (har : a_ar h1 a = a_ar h a) : a_at G h1 a H1 := by
  unfold a_at
  rw [hk, hai, hal, har, hH]
  refine ⟨q.1, q.2.1, q.2.2.1, fun ci hci h18 => ?_, q.2.2.2.2⟩
  obtain ⟨r, h1', h2⟩ := q.2.2.2.1 ci hci h18
  refine ⟨r, h1', (h2.kept hH).to fun k _ => ?_⟩
  unfold o_val
  split <;> simp_all
abbrev XX : Type := Program × Launch × Env × Room × State × MethodId × Array Value × List Frame × Method × Code × OO × GG × Nat × Nat × Nat
abbrev x_p (X : XX) : Program := X.1
abbrev x_l (X : XX) : Launch := X.2.1
abbrev x_e (X : XX) : Env := X.2.2.1
abbrev x_R (X : XX) : Room := X.2.2.2.1
abbrev x_s (X : XX) : State := X.2.2.2.2.1
abbrev x_m (X : XX) : MethodId := X.2.2.2.2.2.1
abbrev x_a (X : XX) : Array Value := X.2.2.2.2.2.2.1
abbrev x_b (X : XX) : List Frame := X.2.2.2.2.2.2.2.1
abbrev x_t (X : XX) : Method := X.2.2.2.2.2.2.2.2.1
abbrev x_c (X : XX) : Code := X.2.2.2.2.2.2.2.2.2.1
abbrev x_o (X : XX) : OO := X.2.2.2.2.2.2.2.2.2.2.1
abbrev x_G (X : XX) : GG := X.2.2.2.2.2.2.2.2.2.2.2.1
abbrev x_n (X : XX) : Nat := X.2.2.2.2.2.2.2.2.2.2.2.2.1
abbrev x_k (X : XX) : Nat := X.2.2.2.2.2.2.2.2.2.2.2.2.2.1
abbrev x_j (X : XX) : Nat := X.2.2.2.2.2.2.2.2.2.2.2.2.2.2
def W_D (G : GG) (h : AH) (U : State) : Prop := K_F G U U.heap ∧ R_p G h U.heap
/-- a method's end: its answer, the heap behind it -/
def e_Q (G : GG) (o : OO) : Array Value → State → Outcome → State → Prop := fun _ st oc t => (∃ v, o.1 = .inl v ∧ oc = .returned v) ∧ W_D G o.2 t ∧ va_F (g_A G) st t
/-- the class of what is thrown -/
def e_E (h : AH) (q : Nat) (E : String) : Prop := ∃ ci r, (a_kd h q).1 = ci + 10 ∧ CLS[ci]? = some r ∧ r.1 = E
def e_X (G : GG) (o : OO) : Addr → String → State → State → Prop := fun q E st t => o.1 = .inr q ∧ e_E o.2 q E ∧ W_D G o.2 t ∧ va_F (g_A G) st t
def x_Q (X : XX) : State → Prop := vx_MQ (x_b X) (e_Q (x_G X) (x_o X)) (e_X (x_G X) (x_o X)) (x_a X) (x_s X) (a_sz (x_o X).2 - x_k X) (a_sl (x_o X).2 - x_j X) (g_A (x_G X))
def W_X (X : XX) (H : Heap) (locs : List Loc) (cells slots : Nat) (g : JFrame) : Prop := W (x_p X) (x_l X) (x_e X) (x_R X) (x_s X) (x_m X) (x_a X) (x_b X) (x_t X) (x_c X) H locs cells slots (x_Q X) g
def V_X (X : XX) (H : Heap) (locs : List Loc) (cells slots : Nat) (g : JFrame) (q : Addr) : Prop := vx_W (x_p X) (x_l X) (x_e X) (x_R X) (x_s X) (x_m X) (x_a X) (x_b X) (x_t X) (x_c X) H locs cells slots (x_Q X) g q
/-- the locals -/
def l_rel (ls : Array Slot) (n : Nat) (L : LL) : Prop := ls.size = n ∧ lv_wf ls ∧ ∀ (i : Nat) (v : Value), L[i]? = some (some v) → ls[i]? = some (.val v)
def l_list (L : LL) : List (Nat × Value) := (List.range L.length).filterMap fun i => match L[i]? with
  | some (some v) => some (i, v)
  | _ => none
theorem l_list_mem {L : LL} {i : Nat} {v : Value} : (i, v) ∈ l_list L ↔ L[i]? = some (some v) := by
  unfold l_list
  simp only [List.mem_filterMap, List.mem_range]
  constructor
  · rintro ⟨j, hj, h⟩
    split at h
    · rename_i w hw
      cases h
      exact hw
    · cases h
  · intro h
    exact ⟨i, (List.getElem?_eq_some_iff.mp h).1, by rw [h]⟩
theorem l_rel.has {ls : Array Slot} {n : Nat} {L : LL} (h : l_rel ls n L) : lv_has ls n (l_list L) := ⟨h.1, h.2.1, fun q hq => h.2.2 q.1 q.2 (l_list_mem.mp hq)⟩
theorem l_clr_at {L : LL} {i j : Nat} {v : Value} (h : (l_clr L i)[j]? = some (some v)) : L[j]? = some (some v) ∧ (j + 1 = i → v.category ≠ 2) := by
  cases i with
  | zero => exact ⟨h, fun q => by omega⟩
  | succ i =>
    simp only [l_clr] at h
    split at h
    · rename_i x hx
      rw [List.getElem?_set] at h
      split at h
      · split at h <;> cases h
      · exact ⟨h, fun q => by omega⟩
    · rename_i x hx
      rw [List.getElem?_set] at h
      split at h
      · split at h <;> cases h
      · exact ⟨h, fun q => by omega⟩
    · rename_i h1 h2
      refine ⟨h, fun q hc => ?_⟩
      have : j = i := by omega
      subst this
      cases v <;> first | exact h1 _ h | exact h2 _ h | cases hc
theorem l_st1_rel {ls : Array Slot} {n : Nat} {L : LL} {i : Nat} {v : Value} (hl : lv_has ls n ((i, v) :: (l_list L).filter (fun q => !(q.1 == i) && !(q.1 + 1 == i && q.2.category == 2)))) : l_rel ls n (l_st1 L i v) := by
  refine ⟨hl.1, hl.2.1, fun j w hj => ?_⟩
  unfold l_st1 at hj
  rw [List.getElem?_set] at hj
  split at hj
  · rename_i e
    subst e
    split at hj
    · cases hj
      exact hl.2.2 (i, v) List.mem_cons_self
    · cases hj
  · rename_i e
    obtain ⟨h1, h2⟩ := l_clr_at hj
    refine hl.2.2 (j, w) (List.mem_cons_of_mem _ (List.mem_filter.mpr ⟨l_list_mem.mpr h1, ?_⟩))
    have e1 : (j == i) = false := by simp; exact fun q => e q.symm
    have e2 : (j + 1 == i && w.category == 2) = false := by
      by_cases hq : j + 1 = i
      · have := h2 hq
        simp [this]
      · simp [hq]
    simp only [e1, e2]
    rfl
theorem l_st2_rel {ls : Array Slot} {n : Nat} {L : LL} {i : Nat} {v : Value} (hl : lv_has ls n ((i, v) :: (l_list L).filter (fun q => !(q.1 == i) && (!(q.1 == i + 1) && !(q.1 + 1 == i && q.2.category == 2))))) : l_rel ls n (l_st2 L i v) := by
  refine ⟨hl.1, hl.2.1, fun j w hj => ?_⟩
  unfold l_st2 at hj
  rw [List.getElem?_set] at hj
  split at hj
  · rename_i e
    subst e
    split at hj
    · cases hj
      exact hl.2.2 (i, v) List.mem_cons_self
    · cases hj
  · rename_i e
    rw [List.getElem?_set] at hj
    split at hj
    · split at hj <;> cases hj
    · rename_i e0
      obtain ⟨h1, h2⟩ := l_clr_at hj
      refine hl.2.2 (j, w) (List.mem_cons_of_mem _ (List.mem_filter.mpr ⟨l_list_mem.mpr h1, ?_⟩))
      have e1 : (j == i) = false := by simp; exact fun q => e q.symm
      have e3 : (j == i + 1) = false := by simp; exact fun q => e0 q.symm
      have e2 : (j + 1 == i && w.category == 2) = false := by
        by_cases hq : j + 1 = i
        · have := h2 hq
          simp [this]
        · simp [hq]
      simp only [e1, e2, e3]
      rfl
theorem l_args_at : ∀ (vs : List Value) (o i : Nat) (v : Value), (l_args vs)[i]? = some (some v) → (o + i, v) ∈ lv_args o vs
  | [], _, i, v, h => by simp [l_args] at h
  | w :: vs, o, i, v, h => by
    unfold l_args at h
    unfold lv_args
    by_cases hc : w.category = 2
    · rw [if_pos hc] at h ⊢
      match i, h with
      | 0, h => simp at h; subst h; exact List.mem_cons_self
      | 1, h => simp at h
      | i + 2, h =>
        have h : (l_args vs)[i]? = some (some v) := by simpa using h
        have := l_args_at vs (o + 2) i v h
        rw [show o + 2 + i = o + (i + 2) by omega] at this
        exact List.mem_cons_of_mem _ this
    · rw [if_neg hc] at h ⊢
      match i, h with
      | 0, h => simp at h; subst h; exact List.mem_cons_self
      | i + 1, h =>
        have h : (l_args vs)[i]? = some (some v) := by simpa using h
        have := l_args_at vs (o + 1) i v h
        rw [show o + 1 + i = o + (i + 1) by omega] at this
        exact List.mem_cons_of_mem _ this
theorem l_ent_rel {ls : Array Slot} {n : Nat} {av : List Value} (h : lv_has ls n (lv_args 0 av)) : l_rel ls n (l_ent av n) := by
  refine ⟨h.1, h.2.1, fun i v hi => ?_⟩
  unfold l_ent at hi
  by_cases hl : i < (l_args av).length
  · rw [List.getElem?_append_left hl] at hi
    have := l_args_at av 0 i v hi
    rw [Nat.zero_add] at this
    exact h.2.2 _ this
  · rw [List.getElem?_append_right (by omega), List.getElem?_replicate] at hi
    split at hi <;> cases hi
/-- a method's code, room, table of handlers -/
abbrev MM : Type := MethodName × ByteArray × Option FieldType × Nat × Nat × Nat × List ExceptionTableEntry
abbrev m_y (M : MM) : MethodName := M.1
abbrev m_c (M : MM) : ByteArray := M.2.1
abbrev m_r (M : MM) : Option FieldType := M.2.2.1
abbrev m_f (M : MM) : Nat := M.2.2.2.1
abbrev m_l (M : MM) : Nat := M.2.2.2.2.1
abbrev m_n (M : MM) : Nat := M.2.2.2.2.2.1
abbrev m_h (M : MM) : List ExceptionTableEntry := M.2.2.2.2.2.2
def C_X (M : MM) (X : XX) : Prop :=
  (x_p X).tables.exec = Jvm.exec ∧ (x_c X).code = m_c M ∧ ((x_c X).maxLocals = x_n X ∧ x_n X = m_n M) ∧ (x_s X).vm.findClass (m_y M).cls = some (x_m X).cls ∧ (∀ w ∈ lw_all, w.before (x_a X) (x_s X) = true) ∧
  (x_t X).locks = false ∧ (x_t X).sig.returnType = m_r M ∧ (x_t X).name = (m_y M).name ∧ K_F (x_G X) (x_s X) (x_s X).heap ∧ g_lo (x_G X) ≤ (x_s X).heap.size ∧ (x_l X).stackTraces = false ∧
  (x_R X).frames = m_f M ∧ (x_R X).locals = m_l M ∧ (x_c X).exceptionTable.toList = m_h M ∧
  a_sz (x_o X).2 ≤ (x_R X).cells + x_k X ∧ a_sl (x_o X).2 ≤ (x_R X).slots + x_j X
theorem C_X.exec {M : MM} {X : XX} (h : C_X M X) : (x_p X).tables.exec = Jvm.exec := h.1
theorem C_X.code {M : MM} {X : XX} (h : C_X M X) : (x_c X).code = m_c M := h.2.1
theorem C_X.maxL {M : MM} {X : XX} (h : C_X M X) : (x_c X).maxLocals = x_n X := h.2.2.1.1
theorem C_X.nl {M : MM} {X : XX} (h : C_X M X) : x_n X = m_n M := h.2.2.1.2
theorem C_X.own {M : MM} {X : XX} (h : C_X M X) : (x_s X).vm.findClass (m_y M).cls = some (x_m X).cls := h.2.2.2.1
theorem C_X.hts {M : MM} {X : XX} (h : C_X M X) : ∀ w ∈ lw_all, w.before (x_a X) (x_s X) = true := h.2.2.2.2.1
theorem C_X.locks {M : MM} {X : XX} (h : C_X M X) : (x_t X).locks = false := h.2.2.2.2.2.1
theorem C_X.rety {M : MM} {X : XX} (h : C_X M X) : (x_t X).sig.returnType = m_r M := h.2.2.2.2.2.2.1
theorem C_X.name {M : MM} {X : XX} (h : C_X M X) : (x_t X).name = (m_y M).name := h.2.2.2.2.2.2.2.1
theorem C_X.kf {M : MM} {X : XX} (h : C_X M X) : K_F (x_G X) (x_s X) (x_s X).heap := h.2.2.2.2.2.2.2.2.1
theorem C_X.low {M : MM} {X : XX} (h : C_X M X) : g_lo (x_G X) ≤ (x_s X).heap.size := h.2.2.2.2.2.2.2.2.2.1
theorem C_X.notr {M : MM} {X : XX} (h : C_X M X) : (x_l X).stackTraces = false := h.2.2.2.2.2.2.2.2.2.2.1
theorem C_X.frames {M : MM} {X : XX} (h : C_X M X) : (x_R X).frames = m_f M := h.2.2.2.2.2.2.2.2.2.2.2.1
theorem C_X.locals {M : MM} {X : XX} (h : C_X M X) : (x_R X).locals = m_l M := h.2.2.2.2.2.2.2.2.2.2.2.2.1
theorem C_X.table {M : MM} {X : XX} (h : C_X M X) : (x_c X).exceptionTable.toList = m_h M := h.2.2.2.2.2.2.2.2.2.2.2.2.2.1
theorem C_X.cells {M : MM} {X : XX} (h : C_X M X) : a_sz (x_o X).2 ≤ (x_R X).cells + x_k X := h.2.2.2.2.2.2.2.2.2.2.2.2.2.2.1
theorem C_X.slots {M : MM} {X : XX} (h : C_X M X) : a_sl (x_o X).2 ≤ (x_R X).slots + x_j X := h.2.2.2.2.2.2.2.2.2.2.2.2.2.2.2
/-- the machine goes on well from here -/
def W_at (X : XX) (pc : Nat) (L : LL) (S : SS) (h : AH) : Prop := ∀ (H : Heap) (locs : List Loc) (cells slots : Nat) (ls : Array Slot), R_p (x_G X) h H → va_S (g_A (x_G X)) (x_s X).heap H locs → cells + x_k X = a_sz h → slots + x_j X = a_sl h → l_rel ls (x_n X) L → W_X X H locs cells slots (F0 (x_m X) pc ls S)
/-- with q thrown -/
def V_at (X : XX) (pc : Nat) (L : LL) (q : Nat) (h : AH) : Prop := ∀ (H : Heap) (locs : List Loc) (cells slots : Nat) (ls : Array Slot) (rest : List Value) (E : String) (ce : Cell), R_p (x_G X) h H → va_S (g_A (x_G X)) (x_s X).heap H locs → cells + x_k X = a_sz h → slots + x_j X = a_sl h → l_rel ls (x_n X) L →
  H[q]? = some ce → ce.vm = .none → (x_s X).vm.findClass E = some ce.cls → e_E h q E → V_X X H locs cells slots (F0 (x_m X) pc ls rest) q
/-- the code at pc computes B -/
def B_S {R : Type} (M : MM) (pc : Nat) (B : KK R) (sz : R → Nat × Nat) (K : XX → R → Prop) : Prop :=
  ∀ L S h r, B L S h = some r → (a_sz h ≤ (sz r).1 ∧ a_sl h ≤ (sz r).2) ∧ ∀ X, C_X M X → (sz r).1 ≤ a_sz (x_o X).2 → (sz r).2 ≤ a_sl (x_o X).2 → K X r → W_at X pc L S h
def B_V {R : Type} (M : MM) (pc : Nat) (B : KX R) (sz : R → Nat × Nat) (K : XX → R → Prop) : Prop :=
  ∀ L q h r, B L q h = some r → (a_sz h ≤ (sz r).1 ∧ a_sl h ≤ (sz r).2) ∧ ∀ X, C_X M X → (sz r).1 ≤ a_sz (x_o X).2 → (sz r).2 ≤ a_sl (x_o X).2 → K X r → V_at X pc L q h
def mk_F (nL : Nat) (B : KK OO) : FF := fun av h => if (l_args av).length ≤ nL then B (l_ent av nL) [] h else none
theorem l_args_len : ∀ av : List Value, (lg_sl av).length = (l_args av).length
  | [] => rfl
  | v :: vs => by
    have := l_args_len vs
    unfold lg_sl at this ⊢
    unfold l_args
    rw [List.flatMap_cons, List.length_append, this]
    by_cases hc : v.category = 2
    · simp [hc]; omega
    · simp [hc]; omega
/-- a method's contract by the function that it computes -/
def Con_ (y : MethodName) (ws : List Cond) (fr lo : Nat) (F : FF) : Prop :=
  ∀ (av : List Value) (h : AH) (o : OO), F av h = some o → (a_sz h ≤ a_sz o.2 ∧ a_sl h ≤ a_sl o.2) ∧ ∀ (l : Launch) (G : GG), l.stackTraces = false → 
    vx_Met l y ws { frames := fr, cells := a_sz o.2 - a_sz h, slots := a_sl o.2 - a_sl h, locals := lo } (va_Pc av (fun U => W_D G h U ∧ g_lo G ≤ U.heap.size)) (e_Q G o) (e_X G o) (a_sz o.2 - a_sz h) (a_sl o.2 - a_sl h) (g_A G)
def z_O (r : OO) : Nat × Nat := (a_sz r.2, a_sl r.2)
def k_O (X : XX) (r : OO) : Prop := r = x_o X
def z_L {R : Type} (sz : R → Nat × Nat) : L_S ⊕ R → Nat × Nat
  | .inl s => (a_sz s.2.2, a_sl s.2.2)
  | .inr r => sz r
def k_L {R : Type} (pc : Nat) (K : XX → R → Prop) (X : XX) : L_S ⊕ R → Prop
  | .inl s => W_at X pc s.1 s.2.1 s.2.2
  | .inr r => K X r
theorem Con_of {y : MethodName} {cc : ByteArray} {nL fr lo : Nat} {ret : Option FieldType} {B : KK OO} (hy : plainName y.cls = true)
    (hB : B_S (y, cc, ret, fr, lo, nL, []) 0 B z_O k_O) : Con_ y (ws_ y cc nL ret) fr lo (mk_F nL B) := by
  intro av h o hF
  unfold mk_F at hF
  by_cases hav : (l_args av).length ≤ nL
  case neg => rw [if_neg hav] at hF; cases hF
  rw [if_pos hav] at hF
  obtain ⟨mono, hB⟩ := hB _ _ _ _ hF
  have mono : a_sz h ≤ a_sz o.2 ∧ a_sl h ≤ a_sl o.2 := mono
  refine ⟨mono, fun l G hl => vx_ofW (cc := cc) (maxL := nL) (ret := ret) hy rfl ?_⟩
  intro p e s m args below meth c s₁ Bd hml hnt hv
  obtain ⟨rfl, ⟨hKF, hRp⟩, hlo⟩ := hv
  have hts := atoms_spec (ws := ws_ y cc nL ret) Bd.pre
  have hts : ∀ w ∈ lw_all, w.before _ s = true := fun w h => hts w (List.mem_cons_of_mem _ h)
  have hown : s.vm.findClass y.cls = some m.cls := findClass_of_methodNamed Bd.named
  have hlk := Bd.notSynchronized
  have hin : meth.name = y.name := (name_of_methodNamed Bd.named Bd.method).1
  have htab : c.exceptionTable.toList = [] := List.eq_nil_iff_forall_not_mem.mpr hnt
  have hW := hB (p, l, e, { frames := fr, cells := a_sz o.2 - a_sz h, slots := a_sl o.2 - a_sl h, locals := lo }, s, m, av.toArray, below, meth, c, o, G, nL, a_sz h, a_sl h)
    ⟨Bd.exec, Bd.bytes, ⟨hml, rfl⟩, hown, hts, hlk, Bd.returns, hin, hKF, hlo, hl, rfl, rfl, htab, Nat.le_of_eq (Nat.sub_add_cancel mono.1).symm, Nat.le_of_eq (Nat.sub_add_cancel mono.2).symm⟩ (Nat.le_refl _) (Nat.le_refl _) rfl
  rw [lg_entry_eq]
  exact hW s.heap [] 0 0 _ hRp va_S.rf (Nat.zero_add _) (Nat.zero_add _) (l_ent_rel (lv_entry av (by rw [l_args_len]; exact hav)))
