set_option maxRecDepth 100000
/-! ===== the component: a Town's objects hold T; a Spot ===== -/
def TR (σ : ZT) (t : Nat) (T : Nat → Int32) (B P O : Nat → Nat) : Prop := zK σ t = 7 ∧ (∀ k, k < 4 → zI σ (600 + k) t = T k) ∧ (zR σ 604 t = some (t + 1) ∧ zK σ (t + 1) = 22 ∧ zN σ (t + 1) = 6) ∧
  (zR σ 605 t = some (t + 2) ∧ zK σ (t + 2) = 21 ∧ zN σ (t + 2) = 6 ∧ ∀ k, k < 6 → zAI σ (t + 2) k = T (8 + k)) ∧
  (zR σ 606 t = some (t + 3) ∧ zK σ (t + 3) = 27 ∧ zN σ (t + 3) = 8 ∧ ∀ b, b < fn T 1 → zAR σ (t + 3) b = some (B b) ∧ zK σ (B b) = 12 ∧ ∀ i, i < 9 → zI σ (1101 + i) (B b) = T (14 + 9 * b + i)) ∧
  (zR σ 607 t = some (t + 4) ∧ zK σ (t + 4) = 28 ∧ zN σ (t + 4) = 4 ∧ ∀ q, q < fn T 2 → zAR σ (t + 4) q = some (P q) ∧ zK σ (P q) = 13 ∧ ∀ i, i < 5 → zI σ (1201 + i) (P q) = T (86 + 5 * q + i)) ∧
  (zR σ 608 t = some (t + 5) ∧ zK σ (t + 5) = 29 ∧ zN σ (t + 5) = 2 ∧ ∀ l, l < fn T 3 → zAR σ (t + 5) l = some (O l) ∧ zK σ (O l) = 14 ∧ ∀ i, i < 2 → zI σ (1301 + i) (O l) = T (106 + 2 * l + i))
def SP (σ : ZT) (s a1 a2 t : Nat) (T : Nat → Int32) (B P O : Nat → Nat) : Prop := (zK σ s = 6 ∧ zR σ 500 s = some t ∧ zR σ 501 s = some a1 ∧ zR σ 502 s = some a2 ∧ (zK σ a1 = 21 ∧ zN σ a1 = 4) ∧ (zK σ a2 = 21 ∧ zN σ a2 = 2) ∧ a1 ≠ a2 ∧ a1 ≠ t + 2 ∧ a2 ≠ t + 2) ∧ TR σ t T B P O
section
variable {σ : ZT} {s a1 a2 t : Nat} {T : Nat → Int32} {B P O : Nat → Nat} {α : Type}
theorem ldI_k {j a k : Nat} (hK : zK σ a = 21 + j) (hk : k < zN σ a) (hb : k < 2 ^ 31) : ldI j a (nI k) σ = some (zAI σ a k) := by
  unfold ldI
  have hc : (nI k).toNatClampNeg = k := nI_clamp hb
  rw [if_pos ⟨hK, nI_pos hb, by rw [hc]; exact hk⟩, hc]
theorem stI_k {a k : Nat} (hK : zK σ a = 21) (hk : k < zN σ a) (hb : k < 2 ^ 31) (v : Int32) : stI a (nI k) v σ = some (sAI σ a k v) := by
  unfold stI
  have hc : (nI k).toNatClampNeg = k := nI_clamp hb
  rw [if_pos ⟨hK, nI_pos hb, by rw [hc]; exact hk⟩, hc]
theorem ldR_k {j a k : Nat} (hK : zK σ a = 21 + j) (hk : k < zN σ a) (hb : k < 2 ^ 31) : ldR j a (nI k) σ = zAR σ a k := by
  unfold ldR
  have hc : (nI k).toNatClampNeg = k := nI_clamp hb
  rw [if_pos ⟨hK, nI_pos hb, by rw [hc]; exact hk⟩, hc]
theorem gI_k {ci f a : Nat} (hK : zK σ a = ci + 1) : gI ci f a σ = some (zI σ f a) := if_pos hK
theorem gR_k {ci f a b : Nat} (hK : zK σ a = ci + 1) (h : zR σ f a = some b) : gR ci f a σ = some b := by
  unfold gR
  rw [if_pos hK, h]
theorem pI_k {ci f a : Nat} (hK : zK σ a = ci + 1) (v : Int32) : pI ci f a v σ = some (sI σ f a v) := if_pos hK
theorem vc_k {ci a : Nat} (hK : zK σ a = ci + 1) (x : Option α) : vc ci a σ x = x := if_pos hK
theorem p500 (h : SP σ s a1 a2 t T B P O) : gR 5 500 s σ = some t := gR_k h.1.1 h.1.2.1
theorem p501 (h : SP σ s a1 a2 t T B P O) : gR 5 501 s σ = some a1 := gR_k h.1.1 h.1.2.2.1
theorem p502 (h : SP σ s a1 a2 t T B P O) : gR 5 502 s σ = some a2 := gR_k h.1.1 h.1.2.2.2.1
theorem pgI (h : SP σ s a1 a2 t T B P O) (f : Nat) : gI 5 f s σ = some (zI σ f s) := gI_k h.1.1
theorem pvc (h : SP σ s a1 a2 t T B P O) (x : Option α) : vc 5 s σ x = x := vc_k h.1.1 x
theorem pl1 (h : SP σ s a1 a2 t T B P O) {k : Nat} (hk : k < 4) : ldI 0 a1 (nI k) σ = some (zAI σ a1 k) := ldI_k h.1.2.2.2.2.1.1 (by rw [h.1.2.2.2.2.1.2]; exact hk) (by omega)
theorem pl2 (h : SP σ s a1 a2 t T B P O) {k : Nat} (hk : k < 2) : ldI 0 a2 (nI k) σ = some (zAI σ a2 k) := ldI_k h.1.2.2.2.2.2.1.1 (by rw [h.1.2.2.2.2.2.1.2]; exact hk) (by omega)
theorem ps1 (h : SP σ s a1 a2 t T B P O) {k : Nat} (hk : k < 4) (v : Int32) : stI a1 (nI k) v σ = some (sAI σ a1 k v) := stI_k h.1.2.2.2.2.1.1 (by rw [h.1.2.2.2.2.1.2]; exact hk) (by omega) v
theorem ps2 (h : SP σ s a1 a2 t T B P O) {k : Nat} (hk : k < 2) (v : Int32) : stI a2 (nI k) v σ = some (sAI σ a2 k v) := stI_k h.1.2.2.2.2.2.1.1 (by rw [h.1.2.2.2.2.2.1.2]; exact hk) (by omega) v
theorem t605 (h : SP σ s a1 a2 t T B P O) : gR 6 605 t σ = some (t + 2) := gR_k h.2.1 h.2.2.2.2.1.1
theorem t606 (h : SP σ s a1 a2 t T B P O) : gR 6 606 t σ = some (t + 3) := gR_k h.2.1 h.2.2.2.2.2.1.1
theorem t607 (h : SP σ s a1 a2 t T B P O) : gR 6 607 t σ = some (t + 4) := gR_k h.2.1 h.2.2.2.2.2.2.1.1
theorem t608 (h : SP σ s a1 a2 t T B P O) : gR 6 608 t σ = some (t + 5) := gR_k h.2.1 h.2.2.2.2.2.2.2.1
theorem tls (h : SP σ s a1 a2 t T B P O) {k : Nat} (hk : k < 6) : ldI 0 (t + 2) (nI k) σ = some (T (8 + k)) := by
  rw [ldI_k h.2.2.2.2.1.2.1 (by rw [h.2.2.2.2.1.2.2.1]; exact hk) (by omega), h.2.2.2.2.1.2.2.2 k hk]
theorem tlb (h : SP σ s a1 a2 t T B P O) {k : Nat} (hk : k < fn T 1) (h8 : k < 8) : ldR 6 (t + 3) (nI k) σ = some (B k) := by
  rw [ldR_k h.2.2.2.2.2.1.2.1 (by rw [h.2.2.2.2.2.1.2.2.1]; exact h8) (by omega)]
  exact (h.2.2.2.2.2.1.2.2.2 k hk).1
theorem tlp (h : SP σ s a1 a2 t T B P O) {k : Nat} (hk : k < fn T 2) (h8 : k < 4) : ldR 7 (t + 4) (nI k) σ = some (P k) := by
  rw [ldR_k h.2.2.2.2.2.2.1.2.1 (by rw [h.2.2.2.2.2.2.1.2.2.1]; exact h8) (by omega)]
  exact (h.2.2.2.2.2.2.1.2.2.2 k hk).1
theorem tlo (h : SP σ s a1 a2 t T B P O) {k : Nat} (hk : k < fn T 3) (h8 : k < 2) : ldR 8 (t + 5) (nI k) σ = some (O k) := by
  rw [ldR_k h.2.2.2.2.2.2.2.2.1 (by rw [h.2.2.2.2.2.2.2.2.2.1]; exact h8) (by omega)]
  exact (h.2.2.2.2.2.2.2.2.2.2 k hk).1
theorem tvb (h : SP σ s a1 a2 t T B P O) {k : Nat} (hk : k < fn T 1) (x : Option α) : vc 11 (B k) σ x = x := vc_k (h.2.2.2.2.2.1.2.2.2 k hk).2.1 x
theorem t600 (h : SP σ s a1 a2 t T B P O) : gI 6 600 t σ = some (T 0) := by
  rw [gI_k h.2.1, h.2.2.1 0 (by decide)]
theorem t601 (h : SP σ s a1 a2 t T B P O) : gI 6 601 t σ = some (T 1) := by
  rw [gI_k h.2.1, h.2.2.1 1 (by decide)]
theorem t602 (h : SP σ s a1 a2 t T B P O) : gI 6 602 t σ = some (T 2) := by
  rw [gI_k h.2.1, h.2.2.1 2 (by decide)]
theorem t603 (h : SP σ s a1 a2 t T B P O) : gI 6 603 t σ = some (T 3) := by
  rw [gI_k h.2.1, h.2.2.1 3 (by decide)]
theorem tb1101 (h : SP σ s a1 a2 t T B P O) {k : Nat} (hk : k < fn T 1) : gI 11 1101 (B k) σ = some (T (14 + 9 * k + 0)) := by
  have g := h.2.2.2.2.2.1.2.2.2 k hk
  rw [gI_k g.2.1, g.2.2 0 (by decide)]
theorem tb1102 (h : SP σ s a1 a2 t T B P O) {k : Nat} (hk : k < fn T 1) : gI 11 1102 (B k) σ = some (T (14 + 9 * k + 1)) := by
  have g := h.2.2.2.2.2.1.2.2.2 k hk
  rw [gI_k g.2.1, g.2.2 1 (by decide)]
theorem tb1103 (h : SP σ s a1 a2 t T B P O) {k : Nat} (hk : k < fn T 1) : gI 11 1103 (B k) σ = some (T (14 + 9 * k + 2)) := by
  have g := h.2.2.2.2.2.1.2.2.2 k hk
  rw [gI_k g.2.1, g.2.2 2 (by decide)]
theorem tb1104 (h : SP σ s a1 a2 t T B P O) {k : Nat} (hk : k < fn T 1) : gI 11 1104 (B k) σ = some (T (14 + 9 * k + 3)) := by
  have g := h.2.2.2.2.2.1.2.2.2 k hk
  rw [gI_k g.2.1, g.2.2 3 (by decide)]
theorem tb1105 (h : SP σ s a1 a2 t T B P O) {k : Nat} (hk : k < fn T 1) : gI 11 1105 (B k) σ = some (T (14 + 9 * k + 4)) := by
  have g := h.2.2.2.2.2.1.2.2.2 k hk
  rw [gI_k g.2.1, g.2.2 4 (by decide)]
theorem tb1106 (h : SP σ s a1 a2 t T B P O) {k : Nat} (hk : k < fn T 1) : gI 11 1106 (B k) σ = some (T (14 + 9 * k + 5)) := by
  have g := h.2.2.2.2.2.1.2.2.2 k hk
  rw [gI_k g.2.1, g.2.2 5 (by decide)]
theorem tb1107 (h : SP σ s a1 a2 t T B P O) {k : Nat} (hk : k < fn T 1) : gI 11 1107 (B k) σ = some (T (14 + 9 * k + 6)) := by
  have g := h.2.2.2.2.2.1.2.2.2 k hk
  rw [gI_k g.2.1, g.2.2 6 (by decide)]
theorem tb1108 (h : SP σ s a1 a2 t T B P O) {k : Nat} (hk : k < fn T 1) : gI 11 1108 (B k) σ = some (T (14 + 9 * k + 7)) := by
  have g := h.2.2.2.2.2.1.2.2.2 k hk
  rw [gI_k g.2.1, g.2.2 7 (by decide)]
theorem tb1109 (h : SP σ s a1 a2 t T B P O) {k : Nat} (hk : k < fn T 1) : gI 11 1109 (B k) σ = some (T (14 + 9 * k + 8)) := by
  have g := h.2.2.2.2.2.1.2.2.2 k hk
  rw [gI_k g.2.1, g.2.2 8 (by decide)]
theorem tp1201 (h : SP σ s a1 a2 t T B P O) {k : Nat} (hk : k < fn T 2) : gI 12 1201 (P k) σ = some (T (86 + 5 * k + 0)) := by
  have g := h.2.2.2.2.2.2.1.2.2.2 k hk
  rw [gI_k g.2.1, g.2.2 0 (by decide)]
theorem tp1202 (h : SP σ s a1 a2 t T B P O) {k : Nat} (hk : k < fn T 2) : gI 12 1202 (P k) σ = some (T (86 + 5 * k + 1)) := by
  have g := h.2.2.2.2.2.2.1.2.2.2 k hk
  rw [gI_k g.2.1, g.2.2 1 (by decide)]
theorem tp1203 (h : SP σ s a1 a2 t T B P O) {k : Nat} (hk : k < fn T 2) : gI 12 1203 (P k) σ = some (T (86 + 5 * k + 2)) := by
  have g := h.2.2.2.2.2.2.1.2.2.2 k hk
  rw [gI_k g.2.1, g.2.2 2 (by decide)]
theorem tp1204 (h : SP σ s a1 a2 t T B P O) {k : Nat} (hk : k < fn T 2) : gI 12 1204 (P k) σ = some (T (86 + 5 * k + 3)) := by
  have g := h.2.2.2.2.2.2.1.2.2.2 k hk
  rw [gI_k g.2.1, g.2.2 3 (by decide)]
theorem tp1205 (h : SP σ s a1 a2 t T B P O) {k : Nat} (hk : k < fn T 2) : gI 12 1205 (P k) σ = some (T (86 + 5 * k + 4)) := by
  have g := h.2.2.2.2.2.2.1.2.2.2 k hk
  rw [gI_k g.2.1, g.2.2 4 (by decide)]
theorem to1301 (h : SP σ s a1 a2 t T B P O) {k : Nat} (hk : k < fn T 3) : gI 13 1301 (O k) σ = some (T (106 + 2 * k + 0)) := by
  have g := h.2.2.2.2.2.2.2.2.2.2 k hk
  rw [gI_k g.2.1, g.2.2 0 (by decide)]
theorem to1302 (h : SP σ s a1 a2 t T B P O) {k : Nat} (hk : k < fn T 3) : gI 13 1302 (O k) σ = some (T (106 + 2 * k + 1)) := by
  have g := h.2.2.2.2.2.2.2.2.2.2 k hk
  rw [gI_k g.2.1, g.2.2 1 (by decide)]
/-- the places of people and loads set -/
def CN (a1 a2 : Nat) (σ : ZT) (x : St) : ZT := sAIr (sAIr σ a2 x.2) a1 x.1
theorem TR.air {a : Nat} (h : TR σ t T B P O) (ha : a ≠ t + 2) (r : Nat → Int32) : TR (sAIr σ a r) t T B P O := by
  obtain ⟨h1, h2, h3, ⟨h4, h5, h6, h7⟩, h8⟩ := h
  exact ⟨h1, h2, h3, ⟨h4, h5, h6, fun k hk => by rw [zAIr_ne _ (Ne.symm ha)]; exact h7 k hk⟩, h8⟩
theorem SP.s1 (h : SP σ s a1 a2 t T B P O) (r : Nat → Int32) : SP (sAIr σ a1 r) s a1 a2 t T B P O := ⟨h.1, h.2.air h.1.2.2.2.2.2.2.2.1 r⟩
theorem SP.s2 (h : SP σ s a1 a2 t T B P O) (r : Nat → Int32) : SP (sAIr σ a2 r) s a1 a2 t T B P O := ⟨h.1, h.2.air h.1.2.2.2.2.2.2.2.2 r⟩
theorem SP.CN (h : SP σ s a1 a2 t T B P O) (x : St) : SP (CN a1 a2 σ x) s a1 a2 t T B P O := (h.s2 x.2).s1 x.1
theorem CN_1 (x : St) : zAI (CN a1 a2 σ x) a1 = x.1 := zAIr_at _ _
theorem CN_2 (hn : a1 ≠ a2) (x : St) : zAI (CN a1 a2 σ x) a2 = x.2 := by
  unfold CN
  rw [zAIr_ne _ (Ne.symm hn), zAIr_at]
theorem CN_ne (x : St) {a : Nat} (h1 : a ≠ a1) (h2 : a ≠ a2) : zAI (CN a1 a2 σ x) a = zAI σ a := by
  unfold CN
  rw [zAIr_ne _ h1, zAIr_ne _ h2]
theorem CN_set1 (x : St) (r : Nat → Int32) : sAIr (CN a1 a2 σ x) a1 r = CN a1 a2 σ (r, x.2) := sAIr_sAIr _ _ _
theorem CN_set2 (hn : a1 ≠ a2) (x : St) (r : Nat → Int32) : sAIr (CN a1 a2 σ x) a2 r = CN a1 a2 σ (x.1, r) := by
  unfold CN
  rw [sAIr_comm hn, sAIr_sAIr]
theorem CN_CN (hn : a1 ≠ a2) (x x' : St) : CN a1 a2 (CN a1 a2 σ x) x' = CN a1 a2 σ x' := by
  show sAIr (sAIr (CN a1 a2 σ x) a2 x'.2) a1 x'.1 = _
  rw [CN_set2 hn, CN_set1]
theorem CN_self : CN a1 a2 σ (zAI σ a1, zAI σ a2) = σ := by
  unfold CN
  rw [sAIr_self]
  exact sAIr_self (σ := σ) a1
end
