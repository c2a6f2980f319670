set_option maxRecDepth 100000
/-! ===== the component's list of moves ===== -/
def MoI (mo : Nat) (σ : ZT) : Prop := zK σ mo = 8 ∧ ∀ i, i < 4 → zR σ (700 + i) mo = some (mo + (1 + i)) ∧ zK σ (mo + (1 + i)) = 21 ∧ zN σ (mo + (1 + i)) = 120
def MLc (mo : Nat) (σ : ZT) (L : List Mv) : Prop := zI σ 704 mo = nI L.length ∧ ∀ k v, L[k]? = some v → zAI σ (mo + 1) k = nI v.1 ∧ zAI σ (mo + 2) k = nI v.2.1 ∧ zAI σ (mo + 3) k = oI v.2.2.1 ∧ zAI σ (mo + 4) k = oI v.2.2.2
section
variable {σ : ZT} {mo t : Nat} {T : Nat → Int32} {B P O : Nat → Nat} {α : Type}
theorem mo700 (h : MoI mo σ) : gR 7 700 mo σ = some (mo + 1) := gR_k h.1 (h.2 0 (by decide)).1
theorem mo701 (h : MoI mo σ) : gR 7 701 mo σ = some (mo + 2) := gR_k h.1 (h.2 1 (by decide)).1
theorem mo702 (h : MoI mo σ) : gR 7 702 mo σ = some (mo + 3) := gR_k h.1 (h.2 2 (by decide)).1
theorem mo703 (h : MoI mo σ) : gR 7 703 mo σ = some (mo + 4) := gR_k h.1 (h.2 3 (by decide)).1
theorem mogI (h : MoI mo σ) (f : Nat) : gI 7 f mo σ = some (zI σ f mo) := gI_k h.1
theorem mopI (h : MoI mo σ) (f : Nat) (v : Int32) : pI 7 f mo v σ = some (sI σ f mo v) := pI_k h.1 v
theorem movc (h : MoI mo σ) (y : Option α) : vc 7 mo σ y = y := vc_k h.1 y
theorem mol1 (h : MoI mo σ) {k : Nat} (hk : k < 120) : ldI 0 (mo + 1) (nI k) σ = some (zAI σ (mo + 1) k) := ldI_k (h.2 0 (by decide)).2.1 (by rw [(h.2 0 (by decide)).2.2]; exact hk) (by omega)
theorem mol2 (h : MoI mo σ) {k : Nat} (hk : k < 120) : ldI 0 (mo + 2) (nI k) σ = some (zAI σ (mo + 2) k) := ldI_k (h.2 1 (by decide)).2.1 (by rw [(h.2 1 (by decide)).2.2]; exact hk) (by omega)
theorem mol3 (h : MoI mo σ) {k : Nat} (hk : k < 120) : ldI 0 (mo + 3) (nI k) σ = some (zAI σ (mo + 3) k) := ldI_k (h.2 2 (by decide)).2.1 (by rw [(h.2 2 (by decide)).2.2]; exact hk) (by omega)
theorem mol4 (h : MoI mo σ) {k : Nat} (hk : k < 120) : ldI 0 (mo + 4) (nI k) σ = some (zAI σ (mo + 4) k) := ldI_k (h.2 3 (by decide)).2.1 (by rw [(h.2 3 (by decide)).2.2]; exact hk) (by omega)
theorem mos1 (h : MoI mo σ) {k : Nat} (hk : k < 120) (v : Int32) : stI (mo + 1) (nI k) v σ = some (sAI σ (mo + 1) k v) := stI_k (h.2 0 (by decide)).2.1 (by rw [(h.2 0 (by decide)).2.2]; exact hk) (by omega) v
theorem mos2 (h : MoI mo σ) {k : Nat} (hk : k < 120) (v : Int32) : stI (mo + 2) (nI k) v σ = some (sAI σ (mo + 2) k v) := stI_k (h.2 1 (by decide)).2.1 (by rw [(h.2 1 (by decide)).2.2]; exact hk) (by omega) v
theorem mos3 (h : MoI mo σ) {k : Nat} (hk : k < 120) (v : Int32) : stI (mo + 3) (nI k) v σ = some (sAI σ (mo + 3) k v) := stI_k (h.2 2 (by decide)).2.1 (by rw [(h.2 2 (by decide)).2.2]; exact hk) (by omega) v
theorem mos4 (h : MoI mo σ) {k : Nat} (hk : k < 120) (v : Int32) : stI (mo + 4) (nI k) v σ = some (sAI σ (mo + 4) k v) := stI_k (h.2 3 (by decide)).2.1 (by rw [(h.2 3 (by decide)).2.2]; exact hk) (by omega) v
theorem Mo_sI (f a : Nat) (v : Int32) : MoI mo (sI σ f a v) = MoI mo σ := rfl
theorem Mo_sAI (a i : Nat) (v : Int32) : MoI mo (sAI σ a i v) = MoI mo σ := rfl
theorem FR.moi {f0 f1 a0 a1 m : Nat} {σ' : ZT} (h : FR m f0 f1 a0 a1 σ σ') (g : MoI mo σ) : MoI mo σ' := by
  obtain ⟨h1, h2, h3, h4, h5, h6, -⟩ := h
  unfold MoI
  rw [h1, h3, h6]
  exact g
theorem FR.tr {f0 f1 a0 a1 m : Nat} {σ' : ZT} (h : FR m f0 f1 a0 a1 σ σ') (hf : (f1 < 600 ∨ 603 < f0) ∧ (f1 < 1101 ∨ 1302 < f0)) (ha : ¬ (m + a0 ≤ t + 2 ∧ t + 2 ≤ m + a1)) (g : TR σ t T B P O) : TR σ' t T B P O := by
  obtain ⟨h1, h2, h3, h4, h5, h6, h7, h8, h9⟩ := h
  unfold TR at g ⊢
  rw [h1, h3, h6, h5, h9 _ ha]
  obtain ⟨g1, g2, g3, g4, ⟨g5, g6, g7, g8⟩, ⟨g9, g10, g11, g12⟩, ⟨g13, g14, g15, g16⟩⟩ := g
  refine ⟨g1, fun k hk => by rw [h8 _ _ (by omega)]; exact g2 k hk, g3, g4, ⟨g5, g6, g7, fun b hb => ?_⟩, ⟨g9, g10, g11, fun b hb => ?_⟩, ⟨g13, g14, g15, fun b hb => ?_⟩⟩
  · obtain ⟨y1, y2, y3⟩ := g8 b hb
    exact ⟨y1, y2, fun i hi => by rw [h8 _ _ (by omega)]; exact y3 i hi⟩
  · obtain ⟨y1, y2, y3⟩ := g12 b hb
    exact ⟨y1, y2, fun i hi => by rw [h8 _ _ (by omega)]; exact y3 i hi⟩
  · obtain ⟨y1, y2, y3⟩ := g16 b hb
    exact ⟨y1, y2, fun i hi => by rw [h8 _ _ (by omega)]; exact y3 i hi⟩
theorem ti (g : TR σ t T B P O) {k : Nat} (hk : k < 4) : gI 6 (600 + k) t σ = some (T k) := by
  rw [gI_k g.1, g.2.1 k hk]
theorem ti1 (g : TR σ t T B P O) : gI 6 601 t σ = some (T 1) := ti g (k := 1) (by decide)
theorem ti2 (g : TR σ t T B P O) : gI 6 602 t σ = some (T 2) := ti g (k := 2) (by decide)
theorem ti3 (g : TR σ t T B P O) : gI 6 603 t σ = some (T 3) := ti g (k := 3) (by decide)
theorem p_add (h : MoI mo σ) {L : List Mv} (hL : MLc mo σ L) (hl : L.length < 120) (v : Mv) : ∃ τ, f_X7_add mo (nI v.1) (nI v.2.1) (oI v.2.2.1) (oI v.2.2.2) σ = some τ ∧ FR mo 704 704 1 4 σ τ ∧ MLc mo τ (L ++ [v]) := by
  obtain ⟨h1, h2⟩ := hL
  refine ⟨sI (sAI (sAI (sAI (sAI σ (mo + 1) L.length (nI v.1)) (mo + 2) L.length (nI v.2.1)) (mo + 3) L.length (oI v.2.2.1)) (mo + 4) L.length (oI v.2.2.2)) 704 mo (nI (L.length + 1)), ?_, ?_, ?_, ?_⟩
  · unfold f_X7_add
    simp (disch := first | exact h | omega | (simp only [Mo_sI, Mo_sAI]; exact h)) only [mo700, mo701, mo702, mo703, mogI, mopI, mos1, mos2, mos3, mos4, bind_s, lI, mI_eq, nI_add, pk_mul, nlt, nle, neq, nI_mI, mI_nI, nltm, mltn, nsub, zremN, zdivN, zI_sAI, h1]
  · exact ((((FR.sAI (by decide) (by decide) _ _).trans (FR.sAI (by decide) (by decide) _ _)).trans (FR.sAI (by decide) (by decide) _ _)).trans (FR.sAI (by decide) (by decide) _ _)).trans (FR.sI (by decide) (by decide) _)
  · rw [r_II, if_pos ⟨rfl, rfl⟩, List.length_append]
    rfl
  · intro k x hk
    by_cases e : k < L.length
    · rw [List.getElem?_append_left e] at hk
      obtain ⟨a1, a2, a3, a4⟩ := h2 k x hk
      have ne : k ≠ L.length := by omega
      refine ⟨?_, ?_, ?_, ?_⟩ <;> simp [zAI_sI, r_AI, ne, a1, a2, a3, a4]
    · have e2 : k = L.length := by
        have := (List.getElem?_eq_some_iff.mp hk).1
        simp at this
        omega
      subst e2
      simp at hk
      subst hk
      refine ⟨?_, ?_, ?_, ?_⟩ <;> simp [zAI_sI, r_AI]
end
