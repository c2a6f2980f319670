set_option maxRecDepth 100000
/-! ===== how many moves are left; the first way; in plain Lean ===== -/
theorem loop_downN {β : Type} {body : (Int32 × Int32 × ZT) → Option ((Int32 × Int32 × ZT) ⊕ (Int32 × ZT))} (n : Nat) (acc : β → Int32) {P : Nat → β → ZT → Prop} (hs : ∀ j, j < n → ∀ b τ, P (j + 1) b τ → ∃ b' τ', body (acc b, nI j, τ) = some (.inl (acc b', dI j, τ')) ∧ P j b' τ') (he : ∀ b τ, P 0 b τ → body (acc b, mI, τ) = some (.inr (acc b, τ))) : ∀ b τ, P n b τ → ∃ b' τ', loopC body (acc b, dI n, τ) = some (acc b', τ') ∧ P 0 b' τ' := by
  have key : ∀ j, j ≤ n → ∀ b τ, P j b τ → ∃ b' τ', loopC body (acc b, dI j, τ) = some (acc b', τ') ∧ P 0 b' τ' := by
    intro j
    induction j with
    | zero =>
      intro _ b τ hP
      refine ⟨b, τ, ?_, hP⟩
      rw [loopC_step, dI_0, he b τ hP]
      rfl
    | succ j ih =>
      intro hj b τ hP
      obtain ⟨b1, τ1, h1, h2⟩ := hs j (by omega) b τ hP
      obtain ⟨b2, τ2, h3, h4⟩ := ih (by omega) b1 τ1 h2
      refine ⟨b2, τ2, ?_, h4⟩
      rw [loopC_step, dI_s, h1]
      exact h3
  exact key n (Nat.le_refl _)
def LV (ms : Ms) (D : Nat → Bool) (L : List Nat) (F : Nat → Option Nat) : Prop := (∀ c j, c ∈ L → F c = some j → lp ms D j c) ∧ (∀ c, c ∈ L → D c = true → F c = some 0) ∧ ∀ c j, c ∈ L → F c = some j → j + 1 ≤ knw F L
def Stb (ms : Ms) (F : Nat → Option Nat) (c : Nat) : Prop := ∀ f c' k, f ∈ ms → f c = some c' → F c' = some k → ∃ i, F c = some i ∧ i ≤ k + 1
/-- the best that a state's moves give -/
def Bst (ms : Ms) (F : Nat → Option Nat) (c : Nat) (b : Option Nat) : Prop := (b = F c ∨ ∃ f c' k, f ∈ ms ∧ f c = some c' ∧ F c' = some k ∧ b = some (k + 1)) ∧ (∀ f c' k, f ∈ ms → f c = some c' → F c' = some k → ∃ i, b = some i ∧ i ≤ k + 1) ∧ ∀ f0, F c = some f0 → ∃ i, b = some i ∧ i ≤ f0
def lmu (F : Nat → Option Nat) (L : List Nat) : Nat := sumF (fun c => (F c).getD 129601) L
section
variable {ms : Ms} {D : Nat → Bool} {L : List Nat} {F : Nat → Option Nat} {c : Nat} {b : Option Nat}
theorem Bst.stb (h : Bst ms F c b) (e : b = F c) : Stb ms F c := by
  intro f c' k hf hc hk
  rw [← e]
  exact h.2.1 f c' k hf hc hk
theorem LV.bd (h : LV ms D L F) (hL : L.length ≤ 129600) {y j : Nat} (hy : y ∈ L) (hj : F y = some j) : j < 129600 := by
  have := h.2.2 y j hy hj
  have := knw_len F L
  omega
theorem LV.set (h : LV ms D L F) (hL : L.length ≤ 129600) (hcl : ∀ c, c ∈ L → ∀ f, f ∈ ms → ∀ c', f c = some c' → c' ∈ L) (hc : c ∈ L) (h0 : F c ≠ some 0) (hb : Bst ms F c b) : LV ms D L (upO F c b) ∧ lmu (upO F c b) L ≤ lmu F L ∧ (b ≠ F c → lmu (upO F c b) L < lmu F L) := by
  have hmon : ∀ y, F y ≠ none → upO F c b y ≠ none := by
    intro y hy
    by_cases e : y = c
    · subst e
      rw [upO_at]
      obtain ⟨f0, hf0⟩ := Option.ne_none_iff_exists'.mp hy
      obtain ⟨i, hi, -⟩ := hb.2.2 f0 hf0
      rw [hi]; simp
    · rw [upO_ne e]; exact hy
  have hk := knw_le (L := L) hmon
  have hbk : ∀ i, b = some i → i + 1 ≤ knw (upO F c b) L := by
    intro i hi
    cases hF : F c with
    | none =>
      rcases hb.1 with e | ⟨f, c', k, h1, h2, h3, h4⟩
      · rw [hF, hi] at e; cases e
      · rw [hi] at h4
        cases h4
        have h5 := h.2.2 c' k (hcl c hc f h1 c' h2) h3
        have h6 := knw_lt (L := L) hmon hc hF (by rw [upO_at, hi]; simp)
        omega
    | some f0 =>
      obtain ⟨i', h1, h2⟩ := hb.2.2 f0 hF
      rw [hi] at h1
      cases h1
      have := h.2.2 c f0 hc hF
      omega
  have hkl := knw_len (upO F c b) L
  have key : (b.getD 129601) ≤ (F c).getD 129601 := by
    cases hF : F c with
    | none =>
      cases hb2 : b with
      | none => exact Nat.le_refl _
      | some i =>
        have := hbk i hb2
        show i ≤ 129601
        omega
    | some f0 =>
      obtain ⟨i, h1, h2⟩ := hb.2.2 f0 hF
      rw [h1]; exact h2
  refine ⟨⟨fun y j hy hj => ?_, fun y hy hD => ?_, fun y j hy hj => ?_⟩, sumF_le (fun y hy => ?_), fun hne => sumF_lt (fun y hy => ?_) hc ?_⟩
  · by_cases e : y = c
    · subst e
      rw [upO_at] at hj
      rcases hb.1 with e | ⟨f, c', k, h1, h2, h3, h4⟩
      · rw [e] at hj; exact h.1 y j hy hj
      · rw [h4] at hj
        cases hj
        exact ⟨f, c', h1, h2, h.1 c' k (hcl y hc f h1 c' h2) h3⟩
    · rw [upO_ne e] at hj; exact h.1 y j hy hj
  · by_cases e : y = c
    · subst e; exact absurd (h.2.1 y hy hD) h0
    · rw [upO_ne e]; exact h.2.1 y hy hD
  · by_cases e : y = c
    · subst e
      rw [upO_at] at hj
      exact hbk j hj
    · rw [upO_ne e] at hj
      have := h.2.2 y j hy hj
      omega
  · show (upO F c b y).getD 129601 ≤ (F y).getD 129601
    by_cases e : y = c
    · subst e; rw [upO_at]; exact key
    · rw [upO_ne e]; exact Nat.le_refl _
  · show (upO F c b y).getD 129601 ≤ (F y).getD 129601
    by_cases e : y = c
    · subst e; rw [upO_at]; exact key
    · rw [upO_ne e]; exact Nat.le_refl _
  · show (upO F c b c).getD 129601 < (F c).getD 129601
    rw [upO_at]
    cases hF : F c with
    | none =>
      cases hb2 : b with
      | none => rw [hF, hb2] at hne; exact absurd rfl hne
      | some i =>
        have := hbk i hb2
        show i < 129601
        omega
    | some f0 =>
      obtain ⟨i, h1, h2⟩ := hb.2.2 f0 hF
      rw [h1]
      show i < f0
      have : i ≠ f0 := fun e => hne (by rw [h1, hF, e])
      omega
theorem LV.least (h : LV ms D L F) (hcl : ∀ c, c ∈ L → ∀ f, f ∈ ms → ∀ c', f c = some c' → c' ∈ L) (hs : ∀ c, c ∈ L → Stb ms F c) : ∀ j c, c ∈ L → lp ms D j c → ∃ i, F c = some i ∧ i ≤ j := by
  intro j
  induction j with
  | zero =>
    intro c hc hl
    exact ⟨0, h.2.1 c hc hl, Nat.le_refl _⟩
  | succ j ih =>
    intro c hc hl
    obtain ⟨f, c', hf, e, hl'⟩ := hl
    obtain ⟨i, h1, h2⟩ := ih c' (hcl c hc f hf c' e) hl'
    obtain ⟨i', h3, h4⟩ := hs c hc f c' i hf e h1
    exact ⟨i', h3, by omega⟩
end
/-- the first move from c behind which j are left -/
def Nx (T : Nat → Int32) (w : Ot) (c j k c' : Nat) : Prop := ∃ v, (mvs T)[k]? = some v ∧ gM T w v c = some c' ∧ lp (msM T w) (dn T) j c' ∧ ∀ i v' c'', i < k → (mvs T)[i]? = some v' → gM T w v' c = some c'' → ¬ lp (msM T w) (dn T) j c''
def WK (T : Nat → Int32) (w : Ot) : Nat → Nat → List Nat → Prop
  | 0, _, ks => ks = []
  | j + 1, c, ks => ∃ k c' r, ks = k :: r ∧ Nx T w c j k c' ∧ WK T w j c' r
theorem Nx.uniq {T : Nat → Int32} {w : Ot} {c j k c' k2 c2 : Nat} (h : Nx T w c j k c') (h' : Nx T w c j k2 c2) : k = k2 ∧ c' = c2 := by
  obtain ⟨v, h1, h2, h3, h4⟩ := h
  obtain ⟨v', g1, g2, g3, g4⟩ := h'
  have hk : k = k2 := by
    by_cases e : k < k2
    · exact absurd h3 (g4 k v c' e h1 h2)
    · by_cases e2 : k2 < k
      · exact absurd g3 (h4 k2 v' c2 e2 g1 g2)
      · omega
  subst hk
  rw [h1] at g1
  cases g1
  rw [h2] at g2
  cases g2
  exact ⟨rfl, rfl⟩
theorem WK.uniq {T : Nat → Int32} {w : Ot} : ∀ {j c : Nat} {ks ks' : List Nat}, WK T w j c ks → WK T w j c ks' → ks = ks' := by
  intro j
  induction j with
  | zero =>
    intro c ks ks' h h'
    have h : ks = [] := h
    have h' : ks' = [] := h'
    rw [h, h']
  | succ j ih =>
    intro c ks ks' h h'
    obtain ⟨k, c1, r, e1, h1, h2⟩ := h
    obtain ⟨k', c1', r', e1', h1', h2'⟩ := h'
    obtain ⟨a, b⟩ := h1.uniq h1'
    subst a b
    rw [e1, e1', ih h2 h2']
theorem WK.len {T : Nat → Int32} {w : Ot} : ∀ {j c : Nat} {ks : List Nat}, WK T w j c ks → ks.length = j := by
  intro j
  induction j with
  | zero =>
    intro c ks h
    have h : ks = [] := h
    rw [h]; rfl
  | succ j ih =>
    intro c ks h
    obtain ⟨k, c1, r, e1, h1, h2⟩ := h
    rw [e1, List.length_cons, ih h2]
theorem WK.mem {T : Nat → Int32} {w : Ot} : ∀ {j c : Nat} {ks : List Nat}, WK T w j c ks → ∀ k, k ∈ ks → k < (mvs T).length := by
  intro j
  induction j with
  | zero =>
    intro c ks h k hk
    have h : ks = [] := h
    rw [h] at hk; cases hk
  | succ j ih =>
    intro c ks h k hk
    obtain ⟨k', c1, r, e1, ⟨v, h1, -⟩, h2⟩ := h
    rw [e1] at hk
    rcases List.mem_cons.mp hk with e | e
    · rw [e]; exact (List.getElem?_eq_some_iff.mp h1).1
    · exact ih h2 k e
theorem WK.congr {T : Nat → Int32} {w w' : Ot} (he : msM T w = msM T w') : ∀ {j c : Nat} {ks : List Nat}, WK T w j c ks → WK T w' j c ks := by
  have hg : ∀ {k : Nat} {v : Mv}, (mvs T)[k]? = some v → gM T w v = gM T w' v := by
    intro k v hv
    have e := he
    unfold msM at e
    exact List.map_inj_left.mp e v (List.mem_of_getElem? hv)
  intro j
  induction j with
  | zero => intro c ks h; exact h
  | succ j ih =>
    intro c ks h
    obtain ⟨k, c1, r, e1, ⟨v, h1, h2, h3, h4⟩, h5⟩ := h
    refine ⟨k, c1, r, e1, ⟨v, h1, by rw [← hg h1]; exact h2, by rw [← he]; exact h3, fun i v' c'' hi hv' hc'' => ?_⟩, ih h5⟩
    rw [← he]
    exact h4 i v' c'' hi hv' (by rw [hg hv']; exact hc'')
