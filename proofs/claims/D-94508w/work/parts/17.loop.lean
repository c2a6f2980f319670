set_option maxRecDepth 100000
/-! ===== loops: the least fixed point of a partial body ===== -/
def ziter {S R : Type} (body : S → Option (S ⊕ R)) : Nat → S → Option R
  | 0, _ => none
  | n + 1, s => match body s with
    | none => none
    | some (.inl s') => ziter body n s'
    | some (.inr r) => some r
theorem ziter_mono {S R : Type} {body : S → Option (S ⊕ R)} : ∀ (n k : Nat) (s : S) (r : R), ziter body n s = some r → ziter body (n + k) s = some r := by
  intro n
  induction n with
  | zero => intro k s r h; cases h
  | succ n ih =>
    intro k s r h
    rw [show n + 1 + k = (n + k) + 1 by omega]
    unfold ziter at h ⊢
    cases hb : body s with
    | none => rw [hb] at h; cases h
    | some x =>
      rw [hb] at h
      cases x with
      | inl s' => exact ih k s' r h
      | inr r' => exact h
noncomputable def loopC {S R : Type} (body : S → Option (S ⊕ R)) (s : S) : Option R := @dite _ (∃ r, ∃ n, ziter body n s = some r) (Classical.propDecidable _) (fun h => some (Classical.choose h)) (fun _ => none)
theorem loopC_iff {S R : Type} {body : S → Option (S ⊕ R)} {s : S} {r : R} : loopC body s = some r ↔ ∃ n, ziter body n s = some r := by
  unfold loopC
  by_cases h : ∃ r, ∃ n, ziter body n s = some r
  · rw [dif_pos h]
    obtain ⟨n, hn⟩ := Classical.choose_spec h
    constructor
    · intro e
      rw [← Option.some.inj e]
      exact ⟨n, hn⟩
    · rintro ⟨k, hk⟩
      have h1 := ziter_mono n k s _ hn
      have h2 := ziter_mono k n s _ hk
      rw [Nat.add_comm k n] at h2
      exact h1.symm.trans h2
  · rw [dif_neg h]
    constructor
    · intro e; cases e
    · rintro ⟨k, hk⟩
      exact absurd ⟨r, k, hk⟩ h
theorem loopC_step {S R : Type} {body : S → Option (S ⊕ R)} {s : S} : loopC body s = (body s).bind (fun x => match x with | .inl s' => loopC body s' | .inr r => some r) := by
  have key : ∀ r, loopC body s = some r ↔ (body s).bind (fun x => match x with | .inl s' => loopC body s' | .inr r => some r) = some r := by
    intro r
    rw [loopC_iff]
    constructor
    · rintro ⟨n, hn⟩
      cases n with
      | zero => cases hn
      | succ n =>
        unfold ziter at hn
        cases hb : body s with
        | none => rw [hb] at hn; cases hn
        | some x =>
          rw [hb] at hn
          cases x with
          | inl s' => exact loopC_iff.mpr ⟨n, hn⟩
          | inr r' => exact hn
    · intro h
      cases hb : body s with
      | none => rw [hb] at h; cases h
      | some x =>
        rw [hb] at h
        cases x with
        | inl s' =>
          obtain ⟨n, hn⟩ := loopC_iff.mp h
          exact ⟨n + 1, by unfold ziter; rw [hb]; exact hn⟩
        | inr r' => exact ⟨1, by unfold ziter; rw [hb]; exact h⟩
  cases h1 : loopC body s with
  | some r => exact ((key r).mp h1).symm
  | none =>
    cases h2 : (body s).bind (fun x => match x with | .inl s' => loopC body s' | .inr r => some r) with
    | none => rfl
    | some r => rw [(key r).mpr h2] at h1; cases h1
/-- what a leaf of the body must show: the loop goes on, or it has ended by r -/
def zlf {S R : Type} (P : S → Prop) (r : R) (x : S ⊕ R) : Prop := match x with
  | .inl s => P s
  | .inr r' => r' = r
theorem zl_c {S R : Type} {P : S → Prop} {r : R} {x : S ⊕ R} {s : S} (hb : some (Sum.inl s) = some x) (hx : zlf P r x) : P s := by
  cases hb; exact hx
theorem zl_x {S R : Type} {P : S → Prop} {r r' : R} {x : S ⊕ R} (hb : some (Sum.inr r') = some x) (hx : zlf P r x) : r' = r := by
  cases hb; exact hx
theorem loopC_ind {S R : Type} {body : S → Option (S ⊕ R)} {P : S → Prop} {r : R} {s : S} (hstep : ∀ (s : S) (x : S ⊕ R), body s = some x → zlf P r x → P s) (h : loopC body s = some r) : P s := by
  obtain ⟨n, hn⟩ := loopC_iff.mp h
  clear h
  induction n generalizing s with
  | zero => cases hn
  | succ n ih =>
    unfold ziter at hn
    cases hb : body s with
    | none => rw [hb] at hn; cases hn
    | some x =>
      rw [hb] at hn
      refine hstep s x hb ?_
      cases x with
      | inl s' => exact ih hn
      | inr r' => exact Option.some.inj hn
