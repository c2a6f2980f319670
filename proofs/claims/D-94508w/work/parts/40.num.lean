set_option maxRecDepth 100000
/-! ===== PLAIN PART: numbers, loops ===== -/
def mI : Int32 := -1
theorem lI (n : Nat) : (OfNat.ofNat n : Int32) = nI n := rfl
theorem mI_eq : -nI 1 = mI := rfl
theorem mI_toInt : mI.toInt = -1 := by decide
theorem nI_mI {k : Nat} (hk : k < 2 ^ 31) : (nI k = mI) = False := by
  apply eq_false
  intro h
  have := congrArg Int32.toInt h
  rw [nI_toInt hk, mI_toInt] at this
  omega
theorem mI_nI {k : Nat} (hk : k < 2 ^ 31) : (mI = nI k) = False := by
  apply eq_false
  intro h
  have h2 := h.symm
  rw [nI_mI hk] at h2
  exact h2

theorem nltm {k : Nat} (hk : k < 2 ^ 31) : (nI k < mI) = False := by
  apply eq_false
  rw [Int32.lt_iff_toInt_lt, nI_toInt hk, mI_toInt]
  omega
theorem mltn {k : Nat} (hk : k < 2 ^ 31) : (mI < nI k) = True := by
  apply eq_true
  rw [Int32.lt_iff_toInt_lt, nI_toInt hk, mI_toInt]
  omega
theorem nlt {a b : Nat} (ha : a < 2 ^ 31) (hb : b < 2 ^ 31) : (nI a < nI b) = (a < b) := propext (nI_ltI ha hb)
theorem nle {a b : Nat} (ha : a < 2 ^ 31) (hb : b < 2 ^ 31) : (nI a ≤ nI b) = (a ≤ b) := propext (nI_leI ha hb)
theorem neq {a b : Nat} (ha : a < 2 ^ 31) (hb : b < 2 ^ 31) : (nI a = nI b) = (a = b) := propext (nI_eq ha hb)
theorem nsub {a b : Nat} (h : b ≤ a) : nI a - nI b = nI (a - b) := pk_sub h
theorem bnd2_s {α β : Type} (v : α) (σ : ZT) (k : α → ZT → Option β) : bnd2 (some (v, σ)) k = k v σ := rfl
theorem bind_s {α β : Type} (v : α) (k : α → Option β) : (some v).bind k = k v := rfl
/-! loops -/
def foldN {α : Type} (g : Nat → α → α) : Nat → α → α
  | 0, a => a
  | n + 1, a => g n (foldN g n a)
theorem loop_go {S R : Type} {body : S → Option (S ⊕ R)} (st : Nat → S) (n : Nat) (r : R) (hs : ∀ k, k < n → body (st k) = some (.inl (st (k + 1)))) (he : body (st n) = some (.inr r)) : loopC body (st 0) = some r := by
  have key : ∀ j, j ≤ n → loopC body (st (n - j)) = some r := by
    intro j
    induction j with
    | zero =>
      intro _
      rw [loopC_step, Nat.sub_zero, he]
      rfl
    | succ j ih =>
      intro hj
      rw [loopC_step, hs (n - (j + 1)) (by omega)]
      show loopC body (st (n - (j + 1) + 1)) = _
      rw [show n - (j + 1) + 1 = n - j by omega]
      exact ih (by omega)
  have := key n (Nat.le_refl n)
  rw [Nat.sub_self] at this
  exact this
/-- a loop by an invariant and a measure -/
theorem loop_inv {S R : Type} {body : S → Option (S ⊕ R)} (I : S → Prop) (μ : S → Nat) (Q : R → Prop) (hb : ∀ s, I s → ∃ x, body s = some x ∧ match x with | .inl s' => I s' ∧ μ s' < μ s | .inr r => Q r) : ∀ s, I s → ∃ r, loopC body s = some r ∧ Q r := by
  have key : ∀ n s, μ s < n → I s → ∃ r, loopC body s = some r ∧ Q r := by
    intro n
    induction n with
    | zero => intro s h; omega
    | succ n ih =>
      intro s hn hI
      obtain ⟨x, hx, hm⟩ := hb s hI
      rw [loopC_step, hx]
      cases x with
      | inl s' =>
        obtain ⟨h1, h2⟩ := hm
        exact ih s' (by omega) h1
      | inr r => exact ⟨r, rfl, hm⟩
  intro s h
  exact key (μ s + 1) s (by omega) h
theorem zremN {a d : Nat} (ha : a < 2 ^ 31) (h0 : 0 < d) (hd : d < 2 ^ 31) : zirem (nI a) (nI d) = some (nI (a % d)) := by
  unfold zirem
  rw [if_neg (nI_ne0 h0 hd), pk_rem ha h0 hd]
theorem zdivN {a d : Nat} (ha : a < 2 ^ 31) (h0 : 0 < d) (hd : d < 2 ^ 31) : zidiv (nI a) (nI d) = some (nI (a / d)) := by
  unfold zidiv
  rw [if_neg (nI_ne0 h0 hd), pk_div ha h0 hd]
