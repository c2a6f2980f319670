set_option maxRecDepth 100000
/-! ===== going on from state to state, in plain Lean ===== -/
abbrev Bf : Type := (Nat → Option Nat) × List Nat
abbrev Ms : Type := List (Nat → Option Nat)
def seeA (d : Nat) (s : Bf) (c : Nat) : Bf := if s.1 c = none then (fun x => if x = c then some d else s.1 x, s.2 ++ [c]) else s
def stepA (c d : Nat) (s : Bf) (f : Nat → Option Nat) : Bf := match f c with
  | none => s
  | some c' => seeA d s c'
def expA (ms : Ms) (c d : Nat) (s : Bf) : Bf := ms.foldl (stepA c d) s
def dA (s : Bf) (c : Nat) : Nat := (s.1 c).getD 0
def bfsK (ms : Ms) (s0 : Bf) : Nat → Bf
  | 0 => s0
  | k + 1 => match (bfsK ms s0 k).2[k]? with
    | none => bfsK ms s0 k
    | some c => expA ms c (dA (bfsK ms s0 k) c + 1) (bfsK ms s0 k)
def b0 (c : Nat) : Bf := (fun x => if x = c then some 0 else none, [c])
/-- what is come to is kept, each once -/
def BI (V : Nat → Prop) (N : Nat) (s : Bf) : Prop := s.2.Nodup ∧ (∀ c, s.1 c ≠ none ↔ c ∈ s.2) ∧ (∀ c, c ∈ s.2 → V c ∧ c < N) ∧ ∀ c d, s.1 c = some d → d < s.2.length
def Cl (V : Nat → Prop) (N : Nat) (ms : Ms) : Prop := ∀ f, f ∈ ms → ∀ c c', V c → f c = some c' → V c' ∧ c' < N
/-- s' goes on from s -/
def Ext (s s' : Bf) : Prop := (∃ l, s'.2 = s.2 ++ l) ∧ ∀ c d, s.1 c = some d → s'.1 c = some d
theorem Ext.refl (s : Bf) : Ext s s := ⟨⟨[], by simp⟩, fun _ _ h => h⟩
theorem Ext.trans {s s' s'' : Bf} (h : Ext s s') (g : Ext s' s'') : Ext s s'' := by
  obtain ⟨⟨l, hl⟩, h2⟩ := h
  obtain ⟨⟨r, hr⟩, g2⟩ := g
  exact ⟨⟨l ++ r, by rw [hr, hl, List.append_assoc]⟩, fun c d hc => g2 c d (h2 c d hc)⟩
section
variable {V : Nat → Prop} {N : Nat} {ms : Ms} {s : Bf}
theorem nodup_lt : ∀ (N : Nat) (l : List Nat), l.Nodup → (∀ c, c ∈ l → c < N) → l.length ≤ N := by
  intro N
  induction N with
  | zero =>
    intro l _ h
    cases l with
    | nil => exact Nat.le_refl _
    | cons a t => exact absurd (h a List.mem_cons_self) (Nat.not_lt_zero a)
  | succ N ih =>
    intro l hn h
    have h1 := ih (l.erase N) (hn.erase N) (fun c hc => by
      have hm := List.mem_of_mem_erase hc
      have hlt := h c hm
      have hne : c ≠ N := fun e => by
        subst e
        exact (List.Nodup.not_mem_erase hn) hc
      omega)
    have h2 := List.length_erase_le (a := N) (l := l)
    by_cases hm : N ∈ l
    · have := List.length_erase_of_mem hm
      have hp : 0 < l.length := List.length_pos_of_mem hm
      omega
    · rw [List.erase_of_not_mem hm] at h1
      omega
theorem BI.len (h : BI V N s) : s.2.length ≤ N := nodup_lt N s.2 h.1 (fun c hc => (h.2.2.1 c hc).2)
theorem BI.see (h : BI V N s) {d c : Nat} (hd : d ≤ s.2.length) (hc : V c ∧ c < N) : BI V N (seeA d s c) ∧ Ext s (seeA d s c) := by
  unfold seeA
  by_cases e : s.1 c = none
  · rw [if_pos e]
    have hnm : c ∉ s.2 := fun hm => ((h.2.1 c).mpr hm) e
    refine ⟨⟨?_, fun x => ?_, fun x hx => ?_, fun x y hx => ?_⟩, ⟨[c], rfl⟩, fun x y hx => ?_⟩
    · rw [List.nodup_append]
      refine ⟨h.1, by simp, fun a ha b hb => ?_⟩
      simp at hb
      subst hb
      exact fun e2 => hnm (e2 ▸ ha)
    · show (if x = c then some d else s.1 x) ≠ none ↔ x ∈ s.2 ++ [c]
      by_cases ex : x = c
      · simp [ex]
      · simp only [ex, if_false, List.mem_append, List.mem_singleton, or_false]
        exact h.2.1 x
    · simp at hx
      rcases hx with hx | hx
      · exact h.2.2.1 x hx
      · subst hx; exact hc
    · have hx : (if x = c then some d else s.1 x) = some y := hx
      show y < (s.2 ++ [c]).length
      simp only [List.length_append, List.length_singleton]
      by_cases ex : x = c
      · simp only [ex, if_true, Option.some.injEq] at hx
        omega
      · simp only [ex, if_false] at hx
        have := h.2.2.2 x y hx
        omega
    · show (if x = c then some d else s.1 x) = some y
      by_cases ex : x = c
      · subst ex; rw [e] at hx; cases hx
      · simp only [ex, if_false]; exact hx
  · rw [if_neg e]
    exact ⟨h, Ext.refl s⟩
theorem BI.exp (hm : Cl V N ms) {c d : Nat} (hV : V c) (h : BI V N s) (hd : d ≤ s.2.length) : BI V N (expA ms c d s) ∧ Ext s (expA ms c d s) := by
  have key : ∀ (l : Ms), (∀ f, f ∈ l → f ∈ ms) → ∀ s, BI V N s → d ≤ s.2.length → BI V N (l.foldl (stepA c d) s) ∧ Ext s (l.foldl (stepA c d) s) := by
    intro l
    induction l with
    | nil => intro _ s h _; exact ⟨h, Ext.refl s⟩
    | cons f t ih =>
      intro hl s h hd
      rw [List.foldl_cons]
      have hs : BI V N (stepA c d s f) ∧ Ext s (stepA c d s f) := by
        unfold stepA
        cases hf : f c with
        | none => exact ⟨h, Ext.refl s⟩
        | some c' => exact h.see hd (hm f (hl f List.mem_cons_self) c c' hV hf)
      have hlen : s.2.length ≤ (stepA c d s f).2.length := by
        obtain ⟨l', hl'⟩ := hs.2.1
        rw [hl', List.length_append]
        omega
      obtain ⟨r1, r2⟩ := ih (fun g hg => hl g (List.mem_cons_of_mem _ hg)) _ hs.1 (by omega)
      exact ⟨r1, hs.2.trans r2⟩
  exact key ms (fun _ h => h) s h hd
theorem BI.b0 {c : Nat} (hc : V c ∧ c < N) : BI V N (b0 c) := by
  refine ⟨List.nodup_cons.mpr ⟨by simp, List.nodup_nil⟩, fun x => ?_, fun x hx => ?_, fun x y hx => ?_⟩
  · show (if x = c then some 0 else none) ≠ none ↔ x ∈ [c]
    by_cases e : x = c <;> simp [e]
  · have : x = c := by simpa [Jvm.Pilot.CSillBridgesLaw_law_r8046_109eba.b0] using hx
    subst this; exact hc
  · have hx : (if x = c then some 0 else none) = some y := hx
    by_cases e : x = c
    · simp only [e, if_true, Option.some.injEq] at hx
      subst hx
      exact Nat.zero_lt_one
    · simp only [e, if_false] at hx
      cases hx
theorem bfsK_inv (hm : Cl V N ms) {c : Nat} (hc : V c ∧ c < N) : ∀ k, BI V N (bfsK ms (b0 c) k) ∧ Ext (bfsK ms (b0 c) k) (bfsK ms (b0 c) (k + 1)) := by
  intro k
  have one : ∀ k, BI V N (bfsK ms (b0 c) k) → BI V N (bfsK ms (b0 c) (k + 1)) ∧ Ext (bfsK ms (b0 c) k) (bfsK ms (b0 c) (k + 1)) := by
    intro k h
    show BI V N (match (bfsK ms (b0 c) k).2[k]? with | none => bfsK ms (b0 c) k | some c' => expA ms c' (dA (bfsK ms (b0 c) k) c' + 1) (bfsK ms (b0 c) k)) ∧ Ext _ (match (bfsK ms (b0 c) k).2[k]? with | none => bfsK ms (b0 c) k | some c' => expA ms c' (dA (bfsK ms (b0 c) k) c' + 1) (bfsK ms (b0 c) k))
    cases hk : (bfsK ms (b0 c) k).2[k]? with
    | none => exact ⟨h, Ext.refl _⟩
    | some c' =>
      have hmem : c' ∈ (bfsK ms (b0 c) k).2 := List.mem_of_getElem? hk
      have hd : dA (bfsK ms (b0 c) k) c' + 1 ≤ (bfsK ms (b0 c) k).2.length := by
        unfold dA
        cases hx : (bfsK ms (b0 c) k).1 c' with
        | none => exact absurd hx ((h.2.1 c').mpr hmem)
        | some d => exact h.2.2.2 c' d hx
      exact h.exp hm (h.2.2.1 c' hmem).1 hd
  have all : ∀ k, BI V N (bfsK ms (b0 c) k) := by
    intro k
    induction k with
    | zero => exact BI.b0 hc
    | succ k ih => exact (one k ih).1
  exact ⟨all k, (one k (all k)).2⟩
theorem bfsK_ext (hm : Cl V N ms) {c : Nat} (hc : V c ∧ c < N) (j k : Nat) (h : j ≤ k) : Ext (bfsK ms (b0 c) j) (bfsK ms (b0 c) k) := by
  induction k with
  | zero =>
    have : j = 0 := by omega
    subst this; exact Ext.refl _
  | succ k ih =>
    by_cases e : j = k + 1
    · subst e; exact Ext.refl _
    · exact (ih (by omega)).trans (bfsK_inv hm hc k).2
/-- all is come to behind K turns -/
def BE (ms : Ms) (c K : Nat) : Prop := (bfsK ms (b0 c) K).2.length = K ∧ ∀ k, k < K → k < (bfsK ms (b0 c) k).2.length
theorem BE.uniq {c K K' : Nat} (h : BE ms c K) (h' : BE ms c K') : K = K' := by
  by_cases e : K < K'
  · have := h'.2 K e
    have := h.1
    omega
  · by_cases e2 : K' < K
    · have := h.2 K' e2
      have := h'.1
      omega
    · omega
theorem BE.ex (hm : Cl V N ms) {c : Nat} (hc : V c ∧ c < N) : ∃ K, BE ms c K := by
  have key : ∀ d k, k + d = N + 1 → (∀ j, j < k → j < (bfsK ms (b0 c) j).2.length) → ∃ K, BE ms c K := by
    intro d
    induction d with
    | zero =>
      intro k hk h
      have := h N (by omega)
      have := (bfsK_inv hm hc N).1.len
      omega
    | succ d ih =>
      intro k hk h
      by_cases e : k < (bfsK ms (b0 c) k).2.length
      · exact ih (k + 1) (by omega) (fun j hj => by
          by_cases ej : j = k
          · subst ej; exact e
          · exact h j (by omega))
      · refine ⟨k, ?_, h⟩
        have hle : k ≤ (bfsK ms (b0 c) k).2.length := by
          cases k with
          | zero => omega
          | succ k =>
            have h1 := h k (by omega)
            obtain ⟨⟨l, hl⟩, -⟩ := (bfsK_inv hm hc k).2
            rw [hl, List.length_append]
            omega
        omega
  exact key (N + 1) 0 (by omega) (fun j hj => absurd hj (Nat.not_lt_zero j))
end
/-! loops over lists -/
theorem loop_foldl {α β : Type} {body : (Int32 × ZT) → Option ((Int32 × ZT) ⊕ ZT)} {L : List α} {f : β → α → β} {P : β → ZT → Prop} (hs : ∀ j v, L[j]? = some v → ∀ b τ, P b τ → ∃ τ', body (nI j, τ) = some (.inl (nI (j + 1), τ')) ∧ P (f b v) τ') (he : ∀ b τ, P b τ → body (nI L.length, τ) = some (.inr τ)) : ∀ b τ, P b τ → ∃ τ', loopC body (nI 0, τ) = some τ' ∧ P (L.foldl f b) τ' := by
  have key : ∀ (r l : List α), l ++ r = L → ∀ b τ, P b τ → ∃ τ', loopC body (nI l.length, τ) = some τ' ∧ P (r.foldl f b) τ' := by
    intro r
    induction r with
    | nil =>
      intro l hl b τ hP
      rw [List.append_nil] at hl
      subst hl
      refine ⟨τ, ?_, hP⟩
      rw [loopC_step, he b τ hP]
      rfl
    | cons v r ih =>
      intro l hl b τ hP
      obtain ⟨τ1, h1, h2⟩ := hs l.length v (by rw [← hl]; simp) b τ hP
      obtain ⟨τ2, h3, h4⟩ := ih (l ++ [v]) (by rw [← hl]; simp) _ τ1 h2
      refine ⟨τ2, ?_, h4⟩
      rw [loopC_step, h1]
      rw [List.length_append] at h3
      exact h3
  exact key L [] rfl
