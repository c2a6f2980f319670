set_option maxRecDepth 100000
/-! ===== least costs, in plain Lean ===== -/
theorem loop_upN {β : Type} {body : (Int32 × Int32 × ZT) → Option ((Int32 × Int32 × ZT) ⊕ (Int32 × ZT))} (n : Nat) (acc : β → Int32) {P : Nat → β → ZT → Prop} (hs : ∀ j, j < n → ∀ b τ, P j b τ → ∃ b' τ', body (acc b, nI j, τ) = some (.inl (acc b', nI (j + 1), τ')) ∧ P (j + 1) b' τ') (he : ∀ b τ, P n b τ → body (acc b, nI n, τ) = some (.inr (acc b, τ))) : ∀ b τ, P 0 b τ → ∃ b' τ', loopC body (acc b, nI 0, τ) = some (acc b', τ') ∧ P n b' τ' := by
  have key : ∀ d j, j + d = n → ∀ b τ, P j b τ → ∃ b' τ', loopC body (acc b, nI j, τ) = some (acc b', τ') ∧ P n b' τ' := by
    intro d
    induction d with
    | zero =>
      intro j hj b τ hP
      have hj : j = n := by omega
      subst hj
      refine ⟨b, τ, ?_, hP⟩
      rw [loopC_step, he b τ hP]
      rfl
    | succ d ih =>
      intro j hj b τ hP
      obtain ⟨b1, τ1, h1, h2⟩ := hs j (by omega) b τ hP
      obtain ⟨b2, τ2, h3, h4⟩ := ih (j + 1) (by omega) b1 τ1 h2
      refine ⟨b2, τ2, ?_, h4⟩
      rw [loopC_step, h1]
      exact h3
  exact key n 0 (by omega)
abbrev Mw : Type := List ((Nat → Option Nat) × Nat)
/-- a chain of n moves from c0 to c that costs v -/
def pc (mw : Mw) (c0 : Nat) : Nat → Nat → Nat → Prop
  | 0, v, c => c = c0 ∧ v = 0
  | n + 1, v, c => ∃ c' v' q, pc mw c0 n v' c' ∧ q ∈ mw ∧ q.1 c' = some c ∧ v = v' + q.2
/-- a move brings nothing less -/
def EO (F : Nat → Option Nat) (c : Nat) (q : (Nat → Option Nat) × Nat) : Prop := ∀ v c', F c = some v → q.1 c = some c' → ∃ u, F c' = some u ∧ u ≤ v + q.2
def RA (mw : Mw) (c0 : Nat) (L : List Nat) (F : Nat → Option Nat) : Prop := (∀ c v, c ∈ L → F c = some v → ∃ n, pc mw c0 n v c) ∧ F c0 = some 0 ∧ ∀ c v, c ∈ L → F c = some v → v + 198 ≤ 198 * knw F L
def RI (mw : Mw) (c0 : Nat) (L : List Nat) (F : Nat → Option Nat) (wt : Nat → Prop) : Prop := RA mw c0 L F ∧ (∀ y, y ∈ L → ¬ wt y → ∀ q, q ∈ mw → EO F y q) ∧ ∀ y, wt y → y ∈ L ∧ F y ≠ none
def RX (mw : Mw) (c0 : Nat) (L : List Nat) (F : Nat → Option Nat) (wt : Nat → Prop) (c n : Nat) : Prop := RA mw c0 L F ∧ (∀ y, y ∈ L → y ≠ c → ¬ wt y → ∀ q, q ∈ mw → EO F y q) ∧ (∀ i q, i < n → mw[i]? = some q → EO F c q) ∧ ∀ y, wt y → y ∈ L ∧ F y ≠ none
/-- all together: how much -/
def cmu (F : Nat → Option Nat) (L : List Nat) : Nat := sumF (fun c => (F c).getD 2147483647) L
section
variable {mw : Mw} {c0 : Nat} {L : List Nat} {F F' : Nat → Option Nat} {wt wt' : Nat → Prop} {c n : Nat}
theorem RI.pop (h : RI mw c0 L F wt) (hw : ∀ y, wt' y → wt y) (hw2 : ∀ y, y ≠ c → wt y → wt' y) : RX mw c0 L F wt' c 0 := ⟨h.1, fun y hy hn hwt => h.2.1 y hy (fun hh => hwt (hw2 y hn hh)), fun i q hi => absurd hi (Nat.not_lt_zero i), fun y hy => h.2.2 y (hw y hy)⟩
theorem RX.all (h : RX mw c0 L F wt c mw.length) : RI mw c0 L F wt := by
  refine ⟨h.1, fun y hy hwt q hq => ?_, h.2.2.2⟩
  by_cases e : y = c
  · subst e
    obtain ⟨i, hi⟩ := List.mem_iff_getElem?.mp hq
    exact h.2.2.1 i q (List.getElem?_eq_some_iff.mp hi).1 hi
  · exact h.2.1 y hy e hwt q hq
theorem RX.keep (h : RX mw c0 L F wt c n) {q : (Nat → Option Nat) × Nat} (hq : mw[n]? = some q) (hE : EO F c q) : RX mw c0 L F wt c (n + 1) := by
  refine ⟨h.1, h.2.1, fun i p hi hp => ?_, h.2.2.2⟩
  by_cases e : i = n
  · subst e
    rw [hq] at hp
    cases hp
    exact hE
  · exact h.2.2.1 i p (by omega) hp
theorem RA.bd (h : RA mw c0 L F) (hL : L.length ≤ 129600) {y v : Nat} (hy : y ∈ L) (hv : F y = some v) : v ≤ 25660602 := by
  have h1 := h.2.2 y v hy hv
  have h2 := knw_len F L
  omega
theorem EO.set {c' v : Nat} {y : Nat} {q p : (Nat → Option Nat) × Nat} (hlt : ∀ u, F c' = some u → v + q.2 < u) (hy : y ≠ c') (h : EO F y p) : EO (upO F c' (some (v + q.2))) y p := by
  intro vy z h1 h2
  rw [upO_ne hy] at h1
  obtain ⟨u, h3, h4⟩ := h vy z h1 h2
  by_cases e : z = c'
  · subst e
    have := hlt u h3
    exact ⟨v + q.2, upO_at _ _ _, by omega⟩
  · exact ⟨u, by rw [upO_ne e]; exact h3, h4⟩
theorem RX.set (h : RX mw c0 L F wt c n) (hL : L.length ≤ 129600) {q : (Nat → Option Nat) × Nat} (hq : mw[n]? = some q) (hc : c ∈ L) {v c' : Nat} (hv : F c = some v) (e : q.1 c = some c') (hc' : c' ∈ L) (hw : q.2 ≤ 198) (hlt : ∀ u, F c' = some u → v + q.2 < u) (hwt : ∀ y, wt' y ↔ (wt y ∨ y = c')) :
    RX mw c0 L (upO F c' (some (v + q.2))) wt' c (n + 1) ∧ c' ≠ c ∧ cmu (upO F c' (some (v + q.2))) L < cmu F L := by
  have hne : c' ≠ c := fun hh => by
    subst hh
    have := hlt v hv
    omega
  have hn0 : c' ≠ c0 := fun hh => by
    subst hh
    have := hlt 0 h.1.2.1
    omega
  have hqm : q ∈ mw := List.mem_of_getElem? hq
  have hvb := h.1.bd hL hc hv
  have hmon : ∀ y, F y ≠ none → upO F c' (some (v + q.2)) y ≠ none := by
    intro y hy
    by_cases ey : y = c'
    · rw [ey, upO_at]; simp
    · rw [upO_ne ey]; exact hy
  have hk := knw_le (L := L) hmon
  refine ⟨⟨⟨fun y vy hy hvy => ?_, ?_, fun y vy hy hvy => ?_⟩, fun y hy hyc hnw p hp => ?_, fun i p hi hp => ?_, fun y hy => ?_⟩, hne, ?_⟩
  · by_cases ey : y = c'
    · subst ey
      rw [upO_at] at hvy
      cases hvy
      obtain ⟨k, hk⟩ := h.1.1 c v hc hv
      exact ⟨k + 1, c, v, q, hk, hqm, e, rfl⟩
    · rw [upO_ne ey] at hvy
      exact h.1.1 y vy hy hvy
  · rw [upO_ne (Ne.symm hn0)]
    exact h.1.2.1
  · by_cases ey : y = c'
    · subst ey
      rw [upO_at] at hvy
      cases hvy
      have hcb := h.1.2.2 c v hc hv
      cases hF : F y with
      | none =>
        have := knw_lt (L := L) hmon hc' hF (by rw [upO_at]; simp)
        omega
      | some u =>
        have h1 := hlt u hF
        have h2 := h.1.2.2 y u hc' hF
        omega
    · rw [upO_ne ey] at hvy
      have := h.1.2.2 y vy hy hvy
      omega
  · have hy' : y ≠ c' := fun hh => hnw ((hwt y).mpr (Or.inr hh))
    exact EO.set hlt hy' (h.2.1 y hy hyc (fun hh => hnw ((hwt y).mpr (Or.inl hh))) p hp)
  · by_cases ei : i = n
    · subst ei
      rw [hq] at hp
      cases hp
      intro vy z h1 h2
      rw [upO_ne (Ne.symm hne), hv] at h1
      cases h1
      rw [e] at h2
      cases h2
      exact ⟨v + q.2, upO_at _ _ _, Nat.le_refl _⟩
    · exact EO.set hlt (Ne.symm hne) (h.2.2.1 i p (by omega) hp)
  · rcases (hwt y).mp hy with h1 | h1
    · exact ⟨(h.2.2.2 y h1).1, hmon y (h.2.2.2 y h1).2⟩
    · subst h1
      exact ⟨hc', by rw [upO_at]; simp⟩
  · refine sumF_lt (fun y hy => ?_) hc' ?_
    · show (upO F c' (some (v + q.2)) y).getD 2147483647 ≤ (F y).getD 2147483647
      by_cases ey : y = c'
      · subst ey
        rw [upO_at]
        cases hF : F y with
        | none => show v + q.2 ≤ 2147483647; omega
        | some u =>
          have := hlt u hF
          show v + q.2 ≤ u
          omega
      · rw [upO_ne ey]; exact Nat.le_refl _
    · show (upO F c' (some (v + q.2)) c').getD 2147483647 < (F c').getD 2147483647
      rw [upO_at]
      cases hF : F c' with
      | none => show v + q.2 < 2147483647; omega
      | some u => exact hlt u hF
theorem RI.le (h : RI mw c0 L F (fun _ => False)) (h0 : c0 ∈ L) (hcl : ∀ c, c ∈ L → ∀ q, q ∈ mw → ∀ c', q.1 c = some c' → c' ∈ L) : ∀ n v c, pc mw c0 n v c → c ∈ L ∧ ∃ u, F c = some u ∧ u ≤ v := by
  intro n
  induction n with
  | zero =>
    intro v c hp
    obtain ⟨e1, e2⟩ := hp
    subst e1
    exact ⟨h0, 0, h.1.2.1, Nat.zero_le _⟩
  | succ n ih =>
    intro v c hp
    obtain ⟨c', v', q, h1, h2, h3, h4⟩ := hp
    obtain ⟨g1, u, g2, g3⟩ := ih v' c' h1
    obtain ⟨w, k1, k2⟩ := h.2.1 c' g1 (fun hh => hh) q h2 u c g2 h3
    exact ⟨hcl c' g1 q h2 c h3, w, k1, by omega⟩
theorem RI.uniq (h : RI mw c0 L F (fun _ => False)) (h' : RI mw c0 L F' (fun _ => False)) (h0 : c0 ∈ L) (hcl : ∀ c, c ∈ L → ∀ q, q ∈ mw → ∀ c', q.1 c = some c' → c' ∈ L) {c : Nat} (hc : c ∈ L) : F c = F' c := by
  have key : ∀ {F F' : Nat → Option Nat}, RI mw c0 L F (fun _ => False) → RI mw c0 L F' (fun _ => False) → ∀ v, F c = some v → ∃ u, F' c = some u ∧ u ≤ v := by
    intro F F' h h' v hv
    obtain ⟨n, hn⟩ := h.1.1 c v hc hv
    exact (h'.le h0 hcl n v c hn).2
  cases hF : F c with
  | none =>
    cases hF' : F' c with
    | none => rfl
    | some v =>
      obtain ⟨u, h1, -⟩ := key h' h v hF'
      rw [hF] at h1; cases h1
  | some v =>
    obtain ⟨u, h1, h2⟩ := key h h' v hF
    obtain ⟨w, h3, h4⟩ := key h' h u h1
    rw [hF] at h3
    cases h3
    have : u = v := by omega
    rw [h1, this]
theorem RI.start (h0 : c0 ∈ L) : RI mw c0 L (upO (fun _ => none) c0 (some 0)) (fun y => y = c0) := by
  have hv : ∀ y v, upO (fun _ => none) c0 (some 0) y = some v → y = c0 ∧ v = 0 := by
    intro y v hy
    by_cases e : y = c0
    · rw [e, upO_at] at hy
      cases hy; exact ⟨e, rfl⟩
    · rw [upO_ne e] at hy; cases hy
  refine ⟨⟨fun c v hc h => ⟨0, hv c v h⟩, upO_at _ _ _, fun c v hc h => ?_⟩, fun y hy hn q hq v c' h1 h2 => absurd (hv y v h1).1 hn, fun y hy => by rw [hy]; exact ⟨h0, by rw [upO_at]; simp⟩⟩
  rw [(hv c v h).2]
  have := knw_lt (F := fun _ => none) (F' := upO (fun _ => none) c0 (some 0)) (L := L) (fun y hy => absurd rfl hy) h0 rfl (by rw [upO_at]; simp)
  omega
/-- the least of what is done -/
def MinD (S : Nat → Prop) (F : Nat → Option Nat) (D : Nat → Bool) : Option Nat → Prop
  | none => ∀ c, S c → D c = true → F c = none
  | some v => (∃ c, S c ∧ D c = true ∧ F c = some v) ∧ ∀ c, S c → D c = true → ∀ u, F c = some u → v ≤ u
theorem MinD.uniq {S : Nat → Prop} {D : Nat → Bool} {r r' : Option Nat} (he : ∀ c, S c → F c = F' c) (h : MinD S F D r) (h' : MinD S F' D r') : r = r' := by
  cases r with
  | none =>
    cases r' with
    | none => rfl
    | some v =>
      obtain ⟨⟨c, h1, h2, h3⟩, -⟩ := h'
      rw [← he c h1, h c h1 h2] at h3
      cases h3
  | some v =>
    cases r' with
    | none =>
      obtain ⟨⟨c, h1, h2, h3⟩, -⟩ := h
      rw [he c h1, h' c h1 h2] at h3
      cases h3
    | some u =>
      obtain ⟨⟨c, h1, h2, h3⟩, h4⟩ := h
      obtain ⟨⟨c', g1, g2, g3⟩, g4⟩ := h'
      rw [he c h1] at h3
      rw [← he c' g1] at g3
      have := g4 c h1 h2 v h3
      have := h4 c' g1 g2 u g3
      congr 1
      omega
theorem MinD.congr {S S' : Nat → Prop} {D : Nat → Bool} {b : Option Nat} (hS : ∀ y, S' y ↔ S y) (h : MinD S F D b) : MinD S' F D b := by
  cases b with
  | none => exact fun y hy => h y ((hS y).mp hy)
  | some v =>
    obtain ⟨⟨z, h1, h2⟩, h3⟩ := h
    exact ⟨⟨z, (hS z).mpr h1, h2⟩, fun y hy => h3 y ((hS y).mp hy)⟩
theorem MinD.keep {S S' : Nat → Prop} {D : Nat → Bool} {b : Option Nat} (hS : ∀ y, S' y ↔ (S y ∨ y = c)) (h : MinD S F D b) (hk : D c = true → ∀ u, F c = some u → ∃ v, b = some v ∧ v ≤ u) : MinD S' F D b := by
  cases b with
  | none =>
    intro y hy hD
    rcases (hS y).mp hy with h1 | h1
    · exact h y h1 hD
    · subst h1
      cases hF : F y with
      | none => rfl
      | some u =>
        obtain ⟨v, hv, -⟩ := hk hD u hF
        cases hv
  | some v =>
    obtain ⟨⟨z, h1, h2⟩, h3⟩ := h
    refine ⟨⟨z, (hS z).mpr (Or.inl h1), h2⟩, fun y hy hD u hu => ?_⟩
    rcases (hS y).mp hy with g1 | g1
    · exact h3 y g1 hD u hu
    · subst g1
      obtain ⟨v', hv', hle⟩ := hk hD u hu
      cases hv'
      exact hle
theorem MinD.take {S S' : Nat → Prop} {D : Nat → Bool} {b : Option Nat} {u : Nat} (hS : ∀ y, S' y ↔ (S y ∨ y = c)) (h : MinD S F D b) (hD : D c = true) (hF : F c = some u) (hlt : ∀ v, b = some v → u < v) : MinD S' F D (some u) := by
  refine ⟨⟨c, (hS c).mpr (Or.inr rfl), hD, hF⟩, fun y hy hDy w hw => ?_⟩
  rcases (hS y).mp hy with g1 | g1
  · cases b with
    | none =>
      rw [h y g1 hDy] at hw
      cases hw
    | some v =>
      have := h.2 y g1 hDy w hw
      have := hlt v rfl
      omega
  · subst g1
    rw [hF] at hw
    cases hw
    exact Nat.le_refl _
theorem ring_ix {fr i sz : Nat} (h1 : fr < sz) (h2 : i < sz) : (fr + i) % sz = if fr + i < sz then fr + i else fr + i - sz := by
  by_cases e : fr + i < sz
  · rw [if_pos e, Nat.mod_eq_of_lt e]
  · rw [if_neg e, Nat.mod_eq_sub_mod (by omega), Nat.mod_eq_of_lt (by omega)]
theorem ring_ne {fr i j sz : Nat} (h1 : fr < sz) (h2 : i < sz) (h3 : j < sz) (h : i ≠ j) : (fr + i) % sz ≠ (fr + j) % sz := by
  rw [ring_ix h1 h2, ring_ix h1 h3]
  split <;> split <;> omega
end
/-! what a move costs -/
def cst (T : Nat → Int32) (what : Nat) (v : Mv) : Nat := match v.2.2.2 with
  | none => 0
  | some br => if v.1 < 2 then if what = 1 then fn T (14 + 9 * br + 6) * (v.1 + 1) else fn T (14 + 9 * br + 7) else 0
def mwM (T : Nat → Int32) (w : Ot) (what : Nat) : Mw := (mvs T).map fun v => (gM T w v, cst T what v)
theorem mwM_get {T : Nat → Int32} {w : Ot} {what j : Nat} {v : Mv} (h : (mvs T)[j]? = some v) : (mwM T w what)[j]? = some (gM T w v, cst T what v) := by
  unfold mwM
  rw [List.getElem?_map, h]
  rfl
theorem mwM_len (T : Nat → Int32) (w : Ot) (what : Nat) : (mwM T w what).length = (mvs T).length := List.length_map _
theorem mwM_mem {T : Nat → Int32} {w : Ot} {what : Nat} {q : (Nat → Option Nat) × Nat} (h : q ∈ mwM T w what) : q.1 ∈ msM T w := by
  obtain ⟨v, hv, e⟩ := List.mem_map.mp h
  exact List.mem_map.mpr ⟨v, hv, by rw [← e]⟩
theorem mvs_br {T : Nat → Int32} {v : Mv} (h : v ∈ mvs T) (h2 : v.1 < 2) : ∃ br, v.2.2.2 = some br ∧ br < fn T 1 := ((mvs_W h).1.2.1 h2).2
theorem cst_le {T : Nat → Int32} (hT : TW T) {v : Mv} (h : v ∈ mvs T) (what : Nat) : cst T what v ≤ 198 := by
  unfold cst
  cases hb : v.2.2.2 with
  | none => exact Nat.zero_le _
  | some br =>
    show (if v.1 < 2 then if what = 1 then fn T (14 + 9 * br + 6) * (v.1 + 1) else fn T (14 + 9 * br + 7) else 0) ≤ 198
    by_cases h2 : v.1 < 2
    · obtain ⟨br', e1, e2⟩ := mvs_br h h2
      rw [hb] at e1
      cases e1
      have h9 := hT.2.2.2.2.2.1 br e2
      have a1 := h9.2.2.2.2.2.2.2.2.2.1
      have a2 := h9.2.2.2.2.2.2.2.2.2.2.1
      rw [if_pos h2]
      by_cases h3 : what = 1
      · rw [if_pos h3]
        have h4 : v.1 + 1 ≤ 2 := by omega
        have := Nat.mul_le_mul a1 h4
        omega
      · rw [if_neg h3]; omega
    · rw [if_neg h2]; exact Nat.zero_le _
def oM (o : Option Nat) : Int32 := match o with
  | none => nI 2147483647
  | some v => nI v
