set_option maxRecDepth 100000
/-! ===== numbers of states: digits ===== -/
def encN (q o : Nat) (a b : Nat → Nat) : Nat := foldN (fun j c => 10 * c + b (o - 1 - j)) o (foldN (fun j c => 6 * c + a (q - 1 - j)) q 0)
theorem enc_eq (T : Nat → Int32) (s : St) : enc T s = encN (fn T 2) (fn T 3) (fn s.1) (fn s.2) := rfl
theorem le4 {q : Nat} (h : q ≤ 4) : q = 0 ∨ q = 1 ∨ q = 2 ∨ q = 3 ∨ q = 4 := by omega
theorem le2 {q : Nat} (h : q ≤ 2) : q = 0 ∨ q = 1 ∨ q = 2 := by omega
theorem encN_lt {q o : Nat} {a b : Nat → Nat} (hq : q ≤ 4) (ho : o ≤ 2) (ha : ∀ p, p < q → a p < 6) (hb : ∀ l, l < o → b l < 10) : encN q o a b < 129600 := by
  have a0 := ha 0
  have a1 := ha 1
  have a2 := ha 2
  have a3 := ha 3
  have b0 := hb 0
  have b1 := hb 1
  rcases le4 hq with rfl | rfl | rfl | rfl | rfl <;> rcases le2 ho with rfl | rfl | rfl <;> simp [encN, foldN] at * <;> omega
theorem decN_P {q o : Nat} {a b : Nat → Nat} (hq : q ≤ 4) (ho : o ≤ 2) (ha : ∀ p, p < q → a p < 6) (hb : ∀ l, l < o → b l < 10) {p : Nat} (hp : p < q) : encN q o a b / 10 ^ o / 6 ^ p % 6 = a p := by
  have a0 := ha 0
  have a1 := ha 1
  have a2 := ha 2
  have a3 := ha 3
  have b0 := hb 0
  have b1 := hb 1
  have hp4 : p = 0 ∨ p = 1 ∨ p = 2 ∨ p = 3 := by omega
  rcases le4 hq with rfl | rfl | rfl | rfl | rfl <;> rcases le2 ho with rfl | rfl | rfl <;> rcases hp4 with rfl | rfl | rfl | rfl <;> first | (exfalso; omega) | (simp [encN, foldN] at *; omega)
theorem decN_L {q o : Nat} {a b : Nat → Nat} (hq : q ≤ 4) (ho : o ≤ 2) (ha : ∀ p, p < q → a p < 6) (hb : ∀ l, l < o → b l < 10) {l : Nat} (hl : l < o) : encN q o a b / 10 ^ l % 10 = b l := by
  have a0 := ha 0
  have a1 := ha 1
  have a2 := ha 2
  have a3 := ha 3
  have b0 := hb 0
  have b1 := hb 1
  have hl2 : l = 0 ∨ l = 1 := by omega
  rcases le4 hq with rfl | rfl | rfl | rfl | rfl <;> rcases le2 ho with rfl | rfl | rfl <;> rcases hl2 with rfl | rfl <;> first | (exfalso; omega) | (simp [encN, foldN] at *; omega)
/-! ===== states that can be ===== -/
def SV (T : Nat → Int32) (s : St) : Prop := (∀ p, p < fn T 2 → s.1 p = nI (fn s.1 p) ∧ fn s.1 p < fn T 0) ∧ (∀ l, l < fn T 3 → s.2 l = nI (fn s.2 l) ∧ (fn s.2 l < fn T 0 ∨ (6 ≤ fn s.2 l ∧ fn s.2 l < 6 + fn T 2))) ∧ ∀ l l', l < fn T 3 → l' < fn T 3 → l ≠ l' → fn s.2 l = fn s.2 l' → fn s.2 l < 6
theorem fn_up (f : Nat → Int32) (i : Nat) (v : Int32) (j : Nat) : fn (up f i v) j = if j = i then v.toNatClampNeg else fn f j := by
  unfold fn up
  split <;> rfl
theorem fn_nI {f : Nat → Int32} {j k : Nat} (h : f j = nI k) (hk : k < 2 ^ 31) : fn f j = k := by
  unfold fn
  rw [h, nI_clamp hk]
section
variable {T : Nat → Int32} {s s' : St}
theorem SV.digits (hT : TW T) (h : SV T s) : (∀ p, p < fn T 2 → fn s.1 p < 6) ∧ ∀ l, l < fn T 3 → fn s.2 l < 10 := by
  have h0 := hT.2.1
  have h4 := hT.2.2.2.1
  refine ⟨fun p hp => ?_, fun l hl => ?_⟩
  · have := (h.1 p hp).2
    omega
  · have := (h.2.1 l hl).2
    omega
theorem SV.enc_lt (hT : TW T) (h : SV T s) : enc T s < 129600 := encN_lt hT.2.2.2.1 hT.2.2.2.2.1 (h.digits hT).1 (h.digits hT).2
theorem SV.dec (hT : TW T) (h : SV T s) : Agr T (dec T (enc T s)) s := by
  refine ⟨fun p hp => ?_, fun l hl => ?_⟩
  · rw [(h.1 p hp).1]
    show nI (enc T s / 10 ^ fn T 3 / 6 ^ p % 6) = _
    rw [enc_eq, decN_P hT.2.2.2.1 hT.2.2.2.2.1 (h.digits hT).1 (h.digits hT).2 hp]
  · rw [(h.2.1 l hl).1]
    show nI (enc T s / 10 ^ l % 10) = _
    rw [enc_eq, decN_L hT.2.2.2.1 hT.2.2.2.2.1 (h.digits hT).1 (h.digits hT).2 hl]
theorem SV.agr (h : SV T s) (a : Agr T s s') : SV T s' := by
  have e1 : ∀ p, p < fn T 2 → fn s'.1 p = fn s.1 p := fun p hp => by unfold fn; rw [a.1 p hp]
  have e2 : ∀ p, p < fn T 3 → fn s'.2 p = fn s.2 p := fun p hp => by unfold fn; rw [a.2 p hp]
  refine ⟨fun p hp => ?_, fun l hl => ?_, fun l l' hl hl' hne he => ?_⟩
  · rw [← a.1 p hp, e1 p hp]; exact h.1 p hp
  · rw [← a.2 l hl, e2 l hl]; exact h.2.1 l hl
  · rw [e2 l hl] at he ⊢
    rw [e2 l' hl'] at he
    exact h.2.2 l l' hl hl' hne he
theorem lo_none {ly : Nat → Int32} {p : Nat} (hn : fn T 3 ≤ 2) (h : lo T ly p = none) {l : Nat} (hl : l < fn T 3) : ¬ ly l = nI (6 + p) := by
  unfold lo at h
  have hl2 : l = 0 ∨ l = 1 := by omega
  split at h
  · cases h
  · split at h
    · cases h
    · rename_i h1 h2
      rcases hl2 with rfl | rfl
      · exact fun e => h1 ⟨hl, e⟩
      · exact fun e => h2 ⟨hl, e⟩
theorem sOth_ok (hT : TW T) {br : Nat} (hb : br < fn T 1) (v : Int32) : ∃ k, sOth T br v = nI k ∧ k < fn T 0 := by
  have h9 := hT.2.2.2.2.2.1 br hb
  unfold sOth
  split
  · exact ⟨_, h9.1 1 (by decide), h9.2.2.1⟩
  · exact ⟨_, h9.1 0 (by decide), h9.2.1⟩
theorem SV.mv (hT : TW T) (h : SV T s) {w : Ot} {v : Mv} (hv : MvW T v) {r : St} (hr : sMv T w v s = some r) : SV T r := by
  have h0 := hT.2.1
  obtain ⟨h1, h2, h3⟩ := hv
  unfold sMv at hr
  have upP : ∀ (f : Nat → Int32) (i k : Nat), (∀ p, p < fn T 2 → f p = nI (fn f p) ∧ fn f p < fn T 0) → k < fn T 0 → ∀ p, p < fn T 2 → up f i (nI k) p = nI (fn (up f i (nI k)) p) ∧ fn (up f i (nI k)) p < fn T 0 := by
    intro f i k hf hk p hp
    rw [fn_up]
    unfold up
    by_cases e : p = i
    · simp only [e, if_true]
      rw [nI_clamp (by omega)]
      exact ⟨rfl, hk⟩
    · simp only [e, if_false]
      exact hf p hp
  by_cases k0 : v.1 < 2
  · obtain ⟨h4, br, h5, h6⟩ := h2 k0
    simp only [k0, if_true, h5] at hr
    split at hr
    · cases hr
    · split at hr
      · cases hr
      · cases hr
        refine ⟨?_, h.2.1, h.2.2⟩
        cases hq : v.2.2.1 with
        | none =>
          obtain ⟨k, e1, e2⟩ := sOth_ok hT h6 (s.1 v.2.1)
          show ∀ p, p < fn T 2 → up s.1 v.2.1 (sOth T br (s.1 v.2.1)) p = nI (fn (up s.1 v.2.1 (sOth T br (s.1 v.2.1))) p) ∧ fn (up s.1 v.2.1 (sOth T br (s.1 v.2.1))) p < fn T 0
          rw [e1]
          exact upP _ _ _ h.1 e2
        | some q =>
          obtain ⟨k, e1, e2⟩ := sOth_ok hT h6 (s.1 v.2.1)
          obtain ⟨k', e1', e2'⟩ := sOth_ok hT h6 (s.1 q)
          show ∀ p, p < fn T 2 → up (up s.1 v.2.1 (sOth T br (s.1 v.2.1))) q (sOth T br (s.1 q)) p = nI (fn (up (up s.1 v.2.1 (sOth T br (s.1 v.2.1))) q (sOth T br (s.1 q))) p) ∧ fn (up (up s.1 v.2.1 (sOth T br (s.1 v.2.1))) q (sOth T br (s.1 q))) p < fn T 0
          rw [e1, e1']
          exact upP _ _ _ (upP _ _ _ h.1 e2) e2'
  · simp only [k0, if_false] at hr
    by_cases k2 : v.1 = 2
    · obtain ⟨l, h5, h6⟩ := h3 k2
      simp only [k2, if_true, h5] at hr
      split at hr
      · rename_i hc
        cases hr
        have hq := hT.2.2.2.1
        have e6 : (nI (6 + v.2.1)).toNatClampNeg = 6 + v.2.1 := nI_clamp (by omega)
        refine ⟨h.1, fun p hp => ?_, fun a b ha hb hne he => ?_⟩
        · show up s.2 l (nI (6 + v.2.1)) p = nI (fn (up s.2 l (nI (6 + v.2.1))) p) ∧ (fn (up s.2 l (nI (6 + v.2.1))) p < fn T 0 ∨ (6 ≤ fn (up s.2 l (nI (6 + v.2.1))) p ∧ fn (up s.2 l (nI (6 + v.2.1))) p < 6 + fn T 2))
          rw [fn_up]
          unfold up
          by_cases e : p = l
          · simp only [e, if_true, e6]
            exact ⟨trivial, Or.inr ⟨by omega, by omega⟩⟩
          · simp only [e, if_false]
            exact h.2.1 p hp
        · have he : fn (up s.2 l (nI (6 + v.2.1))) a = fn (up s.2 l (nI (6 + v.2.1))) b := he
          show fn (up s.2 l (nI (6 + v.2.1))) a < 6
          rw [fn_up, fn_up] at he
          rw [fn_up]
          have hno : ∀ x, x < fn T 3 → fn s.2 x ≠ 6 + v.2.1 := fun x hx hh => lo_none hT.2.2.2.2.1 hc.2.1 hx (by rw [(h.2.1 x hx).1, hh])
          by_cases e : a = l
          · subst e
            simp only [if_true, e6, if_neg (Ne.symm hne)] at he
            exact absurd he.symm (hno b hb)
          · by_cases e' : b = l
            · subst e'
              simp only [if_true, e6, if_neg e] at he
              exact absurd he (hno a ha)
            · simp only [if_neg e, if_neg e'] at he ⊢
              exact h.2.2 a b ha hb hne he
      · cases hr
    · simp only [k2, if_false] at hr
      cases hl : lo T s.2 v.2.1 with
      | none => rw [hl] at hr; cases hr
      | some l =>
        rw [hl] at hr
        cases hr
        have hx := h.1 _ h1
        have e6 : (s.1 v.2.1).toNatClampNeg = fn s.1 v.2.1 := rfl
        refine ⟨h.1, fun p hp => ?_, fun a b ha hb hne he => ?_⟩
        · show up s.2 l (s.1 v.2.1) p = nI (fn (up s.2 l (s.1 v.2.1)) p) ∧ (fn (up s.2 l (s.1 v.2.1)) p < fn T 0 ∨ (6 ≤ fn (up s.2 l (s.1 v.2.1)) p ∧ fn (up s.2 l (s.1 v.2.1)) p < 6 + fn T 2))
          rw [fn_up]
          unfold up
          by_cases e : p = l
          · simp only [e, if_true, e6]
            exact ⟨hx.1, Or.inl hx.2⟩
          · simp only [e, if_false]
            exact h.2.1 p hp
        · have he : fn (up s.2 l (s.1 v.2.1)) a = fn (up s.2 l (s.1 v.2.1)) b := he
          show fn (up s.2 l (s.1 v.2.1)) a < 6
          rw [fn_up, fn_up] at he
          rw [fn_up]
          by_cases e : a = l
          · subst e
            simp only [if_true, e6]
            omega
          · by_cases e' : b = l
            · subst e'
              simp only [if_true, e6, if_neg e] at he ⊢
              omega
            · simp only [if_neg e, if_neg e'] at he ⊢
              exact h.2.2 a b ha hb hne he
end
