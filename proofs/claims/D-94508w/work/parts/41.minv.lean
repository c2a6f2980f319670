set_option maxRecDepth 100000
/-! the model's object at m, its arrays at m + 1 .. m + 21 -/
def mFl : List Nat := [900, 901, 905, 906, 907, 908, 909, 921, 924, 925, 929, 930, 931, 932, 934, 935, 936, 940, 949, 950, 951]
def mKd : List Nat := [21, 22, 21, 21, 22, 23, 23, 21, 21, 21, 21, 21, 21, 21, 21, 21, 25, 21, 21, 21, 21]
def mLn : List Nat := [2150, 100, 4, 4, 240, 900, 900, 3, 4, 2, 100, 100, 100, 100, 129600, 129600, 129600, 129600, 80, 6, 4]
def MInv (m : Nat) (σ : ZT) : Prop := zK σ m = 10 ∧ ∀ k, k < 21 → zR σ (mFl.getD k 0) m = some (m + (k + 1)) ∧ zK σ (m + (k + 1)) = mKd.getD k 0 ∧ zN σ (m + (k + 1)) = mLn.getD k 0
section
variable {m : Nat} {σ : ZT} {α : Type}
theorem mgI (h : MInv m σ) (f : Nat) : gI 9 f m σ = some (zI σ f m) := if_pos h.1
theorem mgL (h : MInv m σ) (f : Nat) : gL 9 f m σ = some (zL σ f m) := if_pos h.1
theorem mpI (h : MInv m σ) (f : Nat) (v : Int32) : pI 9 f m v σ = some (sI σ f m v) := if_pos h.1
theorem mpL (h : MInv m σ) (f : Nat) (v : Int64) : pL 9 f m v σ = some (sL σ f m v) := if_pos h.1
theorem mpZ (h : MInv m σ) (f : Nat) (v : Int32) (hv : v = 0 ∨ v = 1) : pZ 9 f m v σ = some (sI σ f m v) := if_pos ⟨h.1, hv⟩
theorem mvc (h : MInv m σ) (x : Option α) : vc 9 m σ x = x := if_pos h.1
theorem mR900 (h : MInv m σ) : gR 9 900 m σ = some (m + 1) := by
  unfold gR
  rw [if_pos h.1]
  exact (h.2 0 (by decide)).1
theorem ml_at (h : MInv m σ) {k : Nat} (hk : k < 2150) : ldI 0 (m + 1) (nI k) σ = some (zAI σ (m + 1) k) := by
  unfold ldI
  have hc : (nI k).toNatClampNeg = k := nI_clamp (by omega)
  rw [if_pos ⟨(h.2 0 (by decide)).2.1, nI_pos (by omega), by rw [hc, (h.2 0 (by decide)).2.2]; exact hk⟩, hc]
theorem ms_at (h : MInv m σ) {k : Nat} (hk : k < 2150) (v : Int32) : stI (m + 1) (nI k) v σ = some (sAI σ (m + 1) k v) := by
  unfold stI
  have hc : (nI k).toNatClampNeg = k := nI_clamp (by omega)
  rw [if_pos ⟨(h.2 0 (by decide)).2.1, nI_pos (by omega), by rw [hc, (h.2 0 (by decide)).2.2]; exact hk⟩, hc]
theorem mR901 (h : MInv m σ) : gR 9 901 m σ = some (m + 2) := by
  unfold gR
  rw [if_pos h.1]
  exact (h.2 1 (by decide)).1
theorem ml_names (h : MInv m σ) {k : Nat} (hk : k < 100) : ldL (m + 2) (nI k) σ = some (zAL σ (m + 2) k) := by
  unfold ldL
  have hc : (nI k).toNatClampNeg = k := nI_clamp (by omega)
  rw [if_pos ⟨(h.2 1 (by decide)).2.1, nI_pos (by omega), by rw [hc, (h.2 1 (by decide)).2.2]; exact hk⟩, hc]
theorem ms_names (h : MInv m σ) {k : Nat} (hk : k < 100) (v : Int64) : stL (m + 2) (nI k) v σ = some (sAL σ (m + 2) k v) := by
  unfold stL
  have hc : (nI k).toNatClampNeg = k := nI_clamp (by omega)
  rw [if_pos ⟨(h.2 1 (by decide)).2.1, nI_pos (by omega), by rw [hc, (h.2 1 (by decide)).2.2]; exact hk⟩, hc]
theorem mR905 (h : MInv m σ) : gR 9 905 m σ = some (m + 3) := by
  unfold gR
  rw [if_pos h.1]
  exact (h.2 2 (by decide)).1
theorem ml_sort (h : MInv m σ) {k : Nat} (hk : k < 4) : ldI 0 (m + 3) (nI k) σ = some (zAI σ (m + 3) k) := by
  unfold ldI
  have hc : (nI k).toNatClampNeg = k := nI_clamp (by omega)
  rw [if_pos ⟨(h.2 2 (by decide)).2.1, nI_pos (by omega), by rw [hc, (h.2 2 (by decide)).2.2]; exact hk⟩, hc]
theorem ms_sort (h : MInv m σ) {k : Nat} (hk : k < 4) (v : Int32) : stI (m + 3) (nI k) v σ = some (sAI σ (m + 3) k v) := by
  unfold stI
  have hc : (nI k).toNatClampNeg = k := nI_clamp (by omega)
  rw [if_pos ⟨(h.2 2 (by decide)).2.1, nI_pos (by omega), by rw [hc, (h.2 2 (by decide)).2.2]; exact hk⟩, hc]
theorem mR906 (h : MInv m σ) : gR 9 906 m σ = some (m + 4) := by
  unfold gR
  rw [if_pos h.1]
  exact (h.2 3 (by decide)).1
theorem ml_trayMany (h : MInv m σ) {k : Nat} (hk : k < 4) : ldI 0 (m + 4) (nI k) σ = some (zAI σ (m + 4) k) := by
  unfold ldI
  have hc : (nI k).toNatClampNeg = k := nI_clamp (by omega)
  rw [if_pos ⟨(h.2 3 (by decide)).2.1, nI_pos (by omega), by rw [hc, (h.2 3 (by decide)).2.2]; exact hk⟩, hc]
theorem ms_trayMany (h : MInv m σ) {k : Nat} (hk : k < 4) (v : Int32) : stI (m + 4) (nI k) v σ = some (sAI σ (m + 4) k v) := by
  unfold stI
  have hc : (nI k).toNatClampNeg = k := nI_clamp (by omega)
  rw [if_pos ⟨(h.2 3 (by decide)).2.1, nI_pos (by omega), by rw [hc, (h.2 3 (by decide)).2.2]; exact hk⟩, hc]
theorem mR907 (h : MInv m σ) : gR 9 907 m σ = some (m + 5) := by
  unfold gR
  rw [if_pos h.1]
  exact (h.2 4 (by decide)).1
theorem ml_trays (h : MInv m σ) {k : Nat} (hk : k < 240) : ldL (m + 5) (nI k) σ = some (zAL σ (m + 5) k) := by
  unfold ldL
  have hc : (nI k).toNatClampNeg = k := nI_clamp (by omega)
  rw [if_pos ⟨(h.2 4 (by decide)).2.1, nI_pos (by omega), by rw [hc, (h.2 4 (by decide)).2.2]; exact hk⟩, hc]
theorem ms_trays (h : MInv m σ) {k : Nat} (hk : k < 240) (v : Int64) : stL (m + 5) (nI k) v σ = some (sAL σ (m + 5) k v) := by
  unfold stL
  have hc : (nI k).toNatClampNeg = k := nI_clamp (by omega)
  rw [if_pos ⟨(h.2 4 (by decide)).2.1, nI_pos (by omega), by rw [hc, (h.2 4 (by decide)).2.2]; exact hk⟩, hc]
theorem mR908 (h : MInv m σ) : gR 9 908 m σ = some (m + 6) := by
  unfold gR
  rw [if_pos h.1]
  exact (h.2 5 (by decide)).1
theorem ml_tape (h : MInv m σ) {k : Nat} (hk : k < 900) : ldI 2 (m + 6) (nI k) σ = some (zAI σ (m + 6) k) := by
  unfold ldI
  have hc : (nI k).toNatClampNeg = k := nI_clamp (by omega)
  rw [if_pos ⟨(h.2 5 (by decide)).2.1, nI_pos (by omega), by rw [hc, (h.2 5 (by decide)).2.2]; exact hk⟩, hc]
theorem ms_tape (h : MInv m σ) {k : Nat} (hk : k < 900) (v : Int32) : stB (m + 6) (nI k) v σ = some (sAI σ (m + 6) k (v.toInt8.toInt32)) := by
  unfold stB
  have hc : (nI k).toNatClampNeg = k := nI_clamp (by omega)
  rw [if_pos ⟨(h.2 5 (by decide)).2.1, nI_pos (by omega), by rw [hc, (h.2 5 (by decide)).2.2]; exact hk⟩, hc]
theorem mR909 (h : MInv m σ) : gR 9 909 m σ = some (m + 7) := by
  unfold gR
  rw [if_pos h.1]
  exact (h.2 6 (by decide)).1
theorem ml_text (h : MInv m σ) {k : Nat} (hk : k < 900) : ldI 2 (m + 7) (nI k) σ = some (zAI σ (m + 7) k) := by
  unfold ldI
  have hc : (nI k).toNatClampNeg = k := nI_clamp (by omega)
  rw [if_pos ⟨(h.2 6 (by decide)).2.1, nI_pos (by omega), by rw [hc, (h.2 6 (by decide)).2.2]; exact hk⟩, hc]
theorem ms_text (h : MInv m σ) {k : Nat} (hk : k < 900) (v : Int32) : stB (m + 7) (nI k) v σ = some (sAI σ (m + 7) k (v.toInt8.toInt32)) := by
  unfold stB
  have hc : (nI k).toNatClampNeg = k := nI_clamp (by omega)
  rw [if_pos ⟨(h.2 6 (by decide)).2.1, nI_pos (by omega), by rw [hc, (h.2 6 (by decide)).2.2]; exact hk⟩, hc]
theorem mR921 (h : MInv m σ) : gR 9 921 m σ = some (m + 8) := by
  unfold gR
  rw [if_pos h.1]
  exact (h.2 7 (by decide)).1
theorem ml_opened (h : MInv m σ) {k : Nat} (hk : k < 3) : ldI 0 (m + 8) (nI k) σ = some (zAI σ (m + 8) k) := by
  unfold ldI
  have hc : (nI k).toNatClampNeg = k := nI_clamp (by omega)
  rw [if_pos ⟨(h.2 7 (by decide)).2.1, nI_pos (by omega), by rw [hc, (h.2 7 (by decide)).2.2]; exact hk⟩, hc]
theorem ms_opened (h : MInv m σ) {k : Nat} (hk : k < 3) (v : Int32) : stI (m + 8) (nI k) v σ = some (sAI σ (m + 8) k v) := by
  unfold stI
  have hc : (nI k).toNatClampNeg = k := nI_clamp (by omega)
  rw [if_pos ⟨(h.2 7 (by decide)).2.1, nI_pos (by omega), by rw [hc, (h.2 7 (by decide)).2.2]; exact hk⟩, hc]
theorem mR924 (h : MInv m σ) : gR 9 924 m σ = some (m + 9) := by
  unfold gR
  rw [if_pos h.1]
  exact (h.2 8 (by decide)).1
theorem ml_now (h : MInv m σ) {k : Nat} (hk : k < 4) : ldI 0 (m + 9) (nI k) σ = some (zAI σ (m + 9) k) := by
  unfold ldI
  have hc : (nI k).toNatClampNeg = k := nI_clamp (by omega)
  rw [if_pos ⟨(h.2 8 (by decide)).2.1, nI_pos (by omega), by rw [hc, (h.2 8 (by decide)).2.2]; exact hk⟩, hc]
theorem ms_now (h : MInv m σ) {k : Nat} (hk : k < 4) (v : Int32) : stI (m + 9) (nI k) v σ = some (sAI σ (m + 9) k v) := by
  unfold stI
  have hc : (nI k).toNatClampNeg = k := nI_clamp (by omega)
  rw [if_pos ⟨(h.2 8 (by decide)).2.1, nI_pos (by omega), by rw [hc, (h.2 8 (by decide)).2.2]; exact hk⟩, hc]
theorem mR925 (h : MInv m σ) : gR 9 925 m σ = some (m + 10) := by
  unfold gR
  rw [if_pos h.1]
  exact (h.2 9 (by decide)).1
theorem ml_lies (h : MInv m σ) {k : Nat} (hk : k < 2) : ldI 0 (m + 10) (nI k) σ = some (zAI σ (m + 10) k) := by
  unfold ldI
  have hc : (nI k).toNatClampNeg = k := nI_clamp (by omega)
  rw [if_pos ⟨(h.2 9 (by decide)).2.1, nI_pos (by omega), by rw [hc, (h.2 9 (by decide)).2.2]; exact hk⟩, hc]
theorem ms_lies (h : MInv m σ) {k : Nat} (hk : k < 2) (v : Int32) : stI (m + 10) (nI k) v σ = some (sAI σ (m + 10) k v) := by
  unfold stI
  have hc : (nI k).toNatClampNeg = k := nI_clamp (by omega)
  rw [if_pos ⟨(h.2 9 (by decide)).2.1, nI_pos (by omega), by rw [hc, (h.2 9 (by decide)).2.2]; exact hk⟩, hc]
theorem mR929 (h : MInv m σ) : gR 9 929 m σ = some (m + 11) := by
  unfold gR
  rw [if_pos h.1]
  exact (h.2 10 (by decide)).1
theorem ml_moveKind (h : MInv m σ) {k : Nat} (hk : k < 100) : ldI 0 (m + 11) (nI k) σ = some (zAI σ (m + 11) k) := by
  unfold ldI
  have hc : (nI k).toNatClampNeg = k := nI_clamp (by omega)
  rw [if_pos ⟨(h.2 10 (by decide)).2.1, nI_pos (by omega), by rw [hc, (h.2 10 (by decide)).2.2]; exact hk⟩, hc]
theorem ms_moveKind (h : MInv m σ) {k : Nat} (hk : k < 100) (v : Int32) : stI (m + 11) (nI k) v σ = some (sAI σ (m + 11) k v) := by
  unfold stI
  have hc : (nI k).toNatClampNeg = k := nI_clamp (by omega)
  rw [if_pos ⟨(h.2 10 (by decide)).2.1, nI_pos (by omega), by rw [hc, (h.2 10 (by decide)).2.2]; exact hk⟩, hc]
theorem mR930 (h : MInv m σ) : gR 9 930 m σ = some (m + 12) := by
  unfold gR
  rw [if_pos h.1]
  exact (h.2 11 (by decide)).1
theorem ml_moveOne (h : MInv m σ) {k : Nat} (hk : k < 100) : ldI 0 (m + 12) (nI k) σ = some (zAI σ (m + 12) k) := by
  unfold ldI
  have hc : (nI k).toNatClampNeg = k := nI_clamp (by omega)
  rw [if_pos ⟨(h.2 11 (by decide)).2.1, nI_pos (by omega), by rw [hc, (h.2 11 (by decide)).2.2]; exact hk⟩, hc]
theorem ms_moveOne (h : MInv m σ) {k : Nat} (hk : k < 100) (v : Int32) : stI (m + 12) (nI k) v σ = some (sAI σ (m + 12) k v) := by
  unfold stI
  have hc : (nI k).toNatClampNeg = k := nI_clamp (by omega)
  rw [if_pos ⟨(h.2 11 (by decide)).2.1, nI_pos (by omega), by rw [hc, (h.2 11 (by decide)).2.2]; exact hk⟩, hc]
theorem mR931 (h : MInv m σ) : gR 9 931 m σ = some (m + 13) := by
  unfold gR
  rw [if_pos h.1]
  exact (h.2 12 (by decide)).1
theorem ml_moveTwo (h : MInv m σ) {k : Nat} (hk : k < 100) : ldI 0 (m + 13) (nI k) σ = some (zAI σ (m + 13) k) := by
  unfold ldI
  have hc : (nI k).toNatClampNeg = k := nI_clamp (by omega)
  rw [if_pos ⟨(h.2 12 (by decide)).2.1, nI_pos (by omega), by rw [hc, (h.2 12 (by decide)).2.2]; exact hk⟩, hc]
theorem ms_moveTwo (h : MInv m σ) {k : Nat} (hk : k < 100) (v : Int32) : stI (m + 13) (nI k) v σ = some (sAI σ (m + 13) k v) := by
  unfold stI
  have hc : (nI k).toNatClampNeg = k := nI_clamp (by omega)
  rw [if_pos ⟨(h.2 12 (by decide)).2.1, nI_pos (by omega), by rw [hc, (h.2 12 (by decide)).2.2]; exact hk⟩, hc]
theorem mR932 (h : MInv m σ) : gR 9 932 m σ = some (m + 14) := by
  unfold gR
  rw [if_pos h.1]
  exact (h.2 13 (by decide)).1
theorem ml_moveThird (h : MInv m σ) {k : Nat} (hk : k < 100) : ldI 0 (m + 14) (nI k) σ = some (zAI σ (m + 14) k) := by
  unfold ldI
  have hc : (nI k).toNatClampNeg = k := nI_clamp (by omega)
  rw [if_pos ⟨(h.2 13 (by decide)).2.1, nI_pos (by omega), by rw [hc, (h.2 13 (by decide)).2.2]; exact hk⟩, hc]
theorem ms_moveThird (h : MInv m σ) {k : Nat} (hk : k < 100) (v : Int32) : stI (m + 14) (nI k) v σ = some (sAI σ (m + 14) k v) := by
  unfold stI
  have hc : (nI k).toNatClampNeg = k := nI_clamp (by omega)
  rw [if_pos ⟨(h.2 13 (by decide)).2.1, nI_pos (by omega), by rw [hc, (h.2 13 (by decide)).2.2]; exact hk⟩, hc]
theorem mR934 (h : MInv m σ) : gR 9 934 m σ = some (m + 15) := by
  unfold gR
  rw [if_pos h.1]
  exact (h.2 14 (by decide)).1
theorem ml_far (h : MInv m σ) {k : Nat} (hk : k < 129600) : ldI 0 (m + 15) (nI k) σ = some (zAI σ (m + 15) k) := by
  unfold ldI
  have hc : (nI k).toNatClampNeg = k := nI_clamp (by omega)
  rw [if_pos ⟨(h.2 14 (by decide)).2.1, nI_pos (by omega), by rw [hc, (h.2 14 (by decide)).2.2]; exact hk⟩, hc]
theorem ms_far (h : MInv m σ) {k : Nat} (hk : k < 129600) (v : Int32) : stI (m + 15) (nI k) v σ = some (sAI σ (m + 15) k v) := by
  unfold stI
  have hc : (nI k).toNatClampNeg = k := nI_clamp (by omega)
  rw [if_pos ⟨(h.2 14 (by decide)).2.1, nI_pos (by omega), by rw [hc, (h.2 14 (by decide)).2.2]; exact hk⟩, hc]
theorem mR935 (h : MInv m σ) : gR 9 935 m σ = some (m + 16) := by
  unfold gR
  rw [if_pos h.1]
  exact (h.2 15 (by decide)).1
theorem ml_come (h : MInv m σ) {k : Nat} (hk : k < 129600) : ldI 0 (m + 16) (nI k) σ = some (zAI σ (m + 16) k) := by
  unfold ldI
  have hc : (nI k).toNatClampNeg = k := nI_clamp (by omega)
  rw [if_pos ⟨(h.2 15 (by decide)).2.1, nI_pos (by omega), by rw [hc, (h.2 15 (by decide)).2.2]; exact hk⟩, hc]
theorem ms_come (h : MInv m σ) {k : Nat} (hk : k < 129600) (v : Int32) : stI (m + 16) (nI k) v σ = some (sAI σ (m + 16) k v) := by
  unfold stI
  have hc : (nI k).toNatClampNeg = k := nI_clamp (by omega)
  rw [if_pos ⟨(h.2 15 (by decide)).2.1, nI_pos (by omega), by rw [hc, (h.2 15 (by decide)).2.2]; exact hk⟩, hc]
theorem mR936 (h : MInv m σ) : gR 9 936 m σ = some (m + 17) := by
  unfold gR
  rw [if_pos h.1]
  exact (h.2 16 (by decide)).1
theorem ml_good (h : MInv m σ) {k : Nat} (hk : k < 129600) : ldI 4 (m + 17) (nI k) σ = some (zAI σ (m + 17) k) := by
  unfold ldI
  have hc : (nI k).toNatClampNeg = k := nI_clamp (by omega)
  rw [if_pos ⟨(h.2 16 (by decide)).2.1, nI_pos (by omega), by rw [hc, (h.2 16 (by decide)).2.2]; exact hk⟩, hc]
theorem ms_good (h : MInv m σ) {k : Nat} (hk : k < 129600) {v : Int32} (hv : v = 0 ∨ v = 1) : stZ (m + 17) (nI k) v σ = some (sAI σ (m + 17) k v) := by
  unfold stZ
  have hc : (nI k).toNatClampNeg = k := nI_clamp (by omega)
  rw [if_pos ⟨(h.2 16 (by decide)).2.1, ⟨nI_pos (by omega), by rw [hc, (h.2 16 (by decide)).2.2]; exact hk⟩, hv⟩, hc]
theorem mR940 (h : MInv m σ) : gR 9 940 m σ = some (m + 18) := by
  unfold gR
  rw [if_pos h.1]
  exact (h.2 17 (by decide)).1
theorem ml_way (h : MInv m σ) {k : Nat} (hk : k < 129600) : ldI 0 (m + 18) (nI k) σ = some (zAI σ (m + 18) k) := by
  unfold ldI
  have hc : (nI k).toNatClampNeg = k := nI_clamp (by omega)
  rw [if_pos ⟨(h.2 17 (by decide)).2.1, nI_pos (by omega), by rw [hc, (h.2 17 (by decide)).2.2]; exact hk⟩, hc]
theorem ms_way (h : MInv m σ) {k : Nat} (hk : k < 129600) (v : Int32) : stI (m + 18) (nI k) v σ = some (sAI σ (m + 18) k v) := by
  unfold stI
  have hc : (nI k).toNatClampNeg = k := nI_clamp (by omega)
  rw [if_pos ⟨(h.2 17 (by decide)).2.1, nI_pos (by omega), by rw [hc, (h.2 17 (by decide)).2.2]; exact hk⟩, hc]
theorem mR949 (h : MInv m σ) : gR 9 949 m σ = some (m + 19) := by
  unfold gR
  rw [if_pos h.1]
  exact (h.2 18 (by decide)).1
theorem ml_rounds (h : MInv m σ) {k : Nat} (hk : k < 80) : ldI 0 (m + 19) (nI k) σ = some (zAI σ (m + 19) k) := by
  unfold ldI
  have hc : (nI k).toNatClampNeg = k := nI_clamp (by omega)
  rw [if_pos ⟨(h.2 18 (by decide)).2.1, nI_pos (by omega), by rw [hc, (h.2 18 (by decide)).2.2]; exact hk⟩, hc]
theorem ms_rounds (h : MInv m σ) {k : Nat} (hk : k < 80) (v : Int32) : stI (m + 19) (nI k) v σ = some (sAI σ (m + 19) k v) := by
  unfold stI
  have hc : (nI k).toNatClampNeg = k := nI_clamp (by omega)
  rw [if_pos ⟨(h.2 18 (by decide)).2.1, nI_pos (by omega), by rw [hc, (h.2 18 (by decide)).2.2]; exact hk⟩, hc]
theorem mR950 (h : MInv m σ) : gR 9 950 m σ = some (m + 20) := by
  unfold gR
  rw [if_pos h.1]
  exact (h.2 19 (by decide)).1
theorem ml_told0 (h : MInv m σ) {k : Nat} (hk : k < 6) : ldI 0 (m + 20) (nI k) σ = some (zAI σ (m + 20) k) := by
  unfold ldI
  have hc : (nI k).toNatClampNeg = k := nI_clamp (by omega)
  rw [if_pos ⟨(h.2 19 (by decide)).2.1, nI_pos (by omega), by rw [hc, (h.2 19 (by decide)).2.2]; exact hk⟩, hc]
theorem ms_told0 (h : MInv m σ) {k : Nat} (hk : k < 6) (v : Int32) : stI (m + 20) (nI k) v σ = some (sAI σ (m + 20) k v) := by
  unfold stI
  have hc : (nI k).toNatClampNeg = k := nI_clamp (by omega)
  rw [if_pos ⟨(h.2 19 (by decide)).2.1, nI_pos (by omega), by rw [hc, (h.2 19 (by decide)).2.2]; exact hk⟩, hc]
theorem mR951 (h : MInv m σ) : gR 9 951 m σ = some (m + 21) := by
  unfold gR
  rw [if_pos h.1]
  exact (h.2 20 (by decide)).1
theorem ml_endAt (h : MInv m σ) {k : Nat} (hk : k < 4) : ldI 0 (m + 21) (nI k) σ = some (zAI σ (m + 21) k) := by
  unfold ldI
  have hc : (nI k).toNatClampNeg = k := nI_clamp (by omega)
  rw [if_pos ⟨(h.2 20 (by decide)).2.1, nI_pos (by omega), by rw [hc, (h.2 20 (by decide)).2.2]; exact hk⟩, hc]
theorem ms_endAt (h : MInv m σ) {k : Nat} (hk : k < 4) (v : Int32) : stI (m + 21) (nI k) v σ = some (sAI σ (m + 21) k v) := by
  unfold stI
  have hc : (nI k).toNatClampNeg = k := nI_clamp (by omega)
  rw [if_pos ⟨(h.2 20 (by decide)).2.1, nI_pos (by omega), by rw [hc, (h.2 20 (by decide)).2.2]; exact hk⟩, hc]
end
/-! readers over setters -/
section
variable {σ : ZT}
theorem r_II (f a : Nat) (v : Int32) (g b : Nat) : zI (sI σ f a v) g b = if g = f ∧ b = a then v else zI σ g b := rfl
theorem r_LL (f a : Nat) (v : Int64) (g b : Nat) : zL (sL σ f a v) g b = if g = f ∧ b = a then v else zL σ g b := rfl
theorem r_RR (f a : Nat) (v : Option Nat) (g b : Nat) : zR (sR σ f a v) g b = if g = f ∧ b = a then v else zR σ g b := rfl
theorem r_AI (a i : Nat) (v : Int32) (b j : Nat) : zAI (sAI σ a i v) b j = if b = a ∧ j = i then v else zAI σ b j := rfl
theorem r_AL (a i : Nat) (v : Int64) (b j : Nat) : zAL (sAL σ a i v) b j = if b = a ∧ j = i then v else zAL σ b j := rfl
theorem r_AIr (a : Nat) (r : Nat → Int32) (b j : Nat) : zAI (sAIr σ a r) b j = if b = a then r j else zAI σ b j := by
  show (if b = a then r else zAI σ b) j = _
  split <;> rfl
theorem r_ALr (a : Nat) (r : Nat → Int64) (b j : Nat) : zAL (sALr σ a r) b j = if b = a then r j else zAL σ b j := by
  show (if b = a then r else zAL σ b) j = _
  split <;> rfl

theorem zK_sI (f a : Nat) (v : Int32) : zK (sI σ f a v) = zK σ := rfl
theorem zL_sI (f a : Nat) (v : Int32) : zL (sI σ f a v) = zL σ := rfl
theorem zR_sI (f a : Nat) (v : Int32) : zR (sI σ f a v) = zR σ := rfl
theorem zAI_sI (f a : Nat) (v : Int32) : zAI (sI σ f a v) = zAI σ := rfl
theorem zAL_sI (f a : Nat) (v : Int32) : zAL (sI σ f a v) = zAL σ := rfl
theorem zAR_sI (f a : Nat) (v : Int32) : zAR (sI σ f a v) = zAR σ := rfl
theorem zN_sI (f a : Nat) (v : Int32) : zN (sI σ f a v) = zN σ := rfl
theorem zsz_sI (f a : Nat) (v : Int32) : zsz (sI σ f a v) = zsz σ := rfl
theorem zbc_sI (f a : Nat) (v : Int32) : zbc (sI σ f a v) = zbc σ := rfl
theorem zbs_sI (f a : Nat) (v : Int32) : zbs (sI σ f a v) = zbs σ := rfl
theorem zK_sL (f a : Nat) (v : Int64) : zK (sL σ f a v) = zK σ := rfl
theorem zI_sL (f a : Nat) (v : Int64) : zI (sL σ f a v) = zI σ := rfl
theorem zR_sL (f a : Nat) (v : Int64) : zR (sL σ f a v) = zR σ := rfl
theorem zAI_sL (f a : Nat) (v : Int64) : zAI (sL σ f a v) = zAI σ := rfl
theorem zAL_sL (f a : Nat) (v : Int64) : zAL (sL σ f a v) = zAL σ := rfl
theorem zAR_sL (f a : Nat) (v : Int64) : zAR (sL σ f a v) = zAR σ := rfl
theorem zN_sL (f a : Nat) (v : Int64) : zN (sL σ f a v) = zN σ := rfl
theorem zsz_sL (f a : Nat) (v : Int64) : zsz (sL σ f a v) = zsz σ := rfl
theorem zbc_sL (f a : Nat) (v : Int64) : zbc (sL σ f a v) = zbc σ := rfl
theorem zbs_sL (f a : Nat) (v : Int64) : zbs (sL σ f a v) = zbs σ := rfl
theorem zK_sR (f a : Nat) (v : Option Nat) : zK (sR σ f a v) = zK σ := rfl
theorem zI_sR (f a : Nat) (v : Option Nat) : zI (sR σ f a v) = zI σ := rfl
theorem zL_sR (f a : Nat) (v : Option Nat) : zL (sR σ f a v) = zL σ := rfl
theorem zAI_sR (f a : Nat) (v : Option Nat) : zAI (sR σ f a v) = zAI σ := rfl
theorem zAL_sR (f a : Nat) (v : Option Nat) : zAL (sR σ f a v) = zAL σ := rfl
theorem zAR_sR (f a : Nat) (v : Option Nat) : zAR (sR σ f a v) = zAR σ := rfl
theorem zN_sR (f a : Nat) (v : Option Nat) : zN (sR σ f a v) = zN σ := rfl
theorem zsz_sR (f a : Nat) (v : Option Nat) : zsz (sR σ f a v) = zsz σ := rfl
theorem zbc_sR (f a : Nat) (v : Option Nat) : zbc (sR σ f a v) = zbc σ := rfl
theorem zbs_sR (f a : Nat) (v : Option Nat) : zbs (sR σ f a v) = zbs σ := rfl
theorem zK_sAI (a i : Nat) (v : Int32) : zK (sAI σ a i v) = zK σ := rfl
theorem zI_sAI (a i : Nat) (v : Int32) : zI (sAI σ a i v) = zI σ := rfl
theorem zL_sAI (a i : Nat) (v : Int32) : zL (sAI σ a i v) = zL σ := rfl
theorem zR_sAI (a i : Nat) (v : Int32) : zR (sAI σ a i v) = zR σ := rfl
theorem zAL_sAI (a i : Nat) (v : Int32) : zAL (sAI σ a i v) = zAL σ := rfl
theorem zAR_sAI (a i : Nat) (v : Int32) : zAR (sAI σ a i v) = zAR σ := rfl
theorem zN_sAI (a i : Nat) (v : Int32) : zN (sAI σ a i v) = zN σ := rfl
theorem zsz_sAI (a i : Nat) (v : Int32) : zsz (sAI σ a i v) = zsz σ := rfl
theorem zbc_sAI (a i : Nat) (v : Int32) : zbc (sAI σ a i v) = zbc σ := rfl
theorem zbs_sAI (a i : Nat) (v : Int32) : zbs (sAI σ a i v) = zbs σ := rfl
theorem zK_sAL (a i : Nat) (v : Int64) : zK (sAL σ a i v) = zK σ := rfl
theorem zI_sAL (a i : Nat) (v : Int64) : zI (sAL σ a i v) = zI σ := rfl
theorem zL_sAL (a i : Nat) (v : Int64) : zL (sAL σ a i v) = zL σ := rfl
theorem zR_sAL (a i : Nat) (v : Int64) : zR (sAL σ a i v) = zR σ := rfl
theorem zAI_sAL (a i : Nat) (v : Int64) : zAI (sAL σ a i v) = zAI σ := rfl
theorem zAR_sAL (a i : Nat) (v : Int64) : zAR (sAL σ a i v) = zAR σ := rfl
theorem zN_sAL (a i : Nat) (v : Int64) : zN (sAL σ a i v) = zN σ := rfl
theorem zsz_sAL (a i : Nat) (v : Int64) : zsz (sAL σ a i v) = zsz σ := rfl
theorem zbc_sAL (a i : Nat) (v : Int64) : zbc (sAL σ a i v) = zbc σ := rfl
theorem zbs_sAL (a i : Nat) (v : Int64) : zbs (sAL σ a i v) = zbs σ := rfl
theorem zK_sAR (a i : Nat) (v : Option Nat) : zK (sAR σ a i v) = zK σ := rfl
theorem zI_sAR (a i : Nat) (v : Option Nat) : zI (sAR σ a i v) = zI σ := rfl
theorem zL_sAR (a i : Nat) (v : Option Nat) : zL (sAR σ a i v) = zL σ := rfl
theorem zR_sAR (a i : Nat) (v : Option Nat) : zR (sAR σ a i v) = zR σ := rfl
theorem zAI_sAR (a i : Nat) (v : Option Nat) : zAI (sAR σ a i v) = zAI σ := rfl
theorem zAL_sAR (a i : Nat) (v : Option Nat) : zAL (sAR σ a i v) = zAL σ := rfl
theorem zN_sAR (a i : Nat) (v : Option Nat) : zN (sAR σ a i v) = zN σ := rfl
theorem zsz_sAR (a i : Nat) (v : Option Nat) : zsz (sAR σ a i v) = zsz σ := rfl
theorem zbc_sAR (a i : Nat) (v : Option Nat) : zbc (sAR σ a i v) = zbc σ := rfl
theorem zbs_sAR (a i : Nat) (v : Option Nat) : zbs (sAR σ a i v) = zbs σ := rfl
theorem zK_sAIr (a : Nat) (r : Nat → Int32) : zK (sAIr σ a r) = zK σ := rfl
theorem zI_sAIr (a : Nat) (r : Nat → Int32) : zI (sAIr σ a r) = zI σ := rfl
theorem zL_sAIr (a : Nat) (r : Nat → Int32) : zL (sAIr σ a r) = zL σ := rfl
theorem zR_sAIr (a : Nat) (r : Nat → Int32) : zR (sAIr σ a r) = zR σ := rfl
theorem zAL_sAIr (a : Nat) (r : Nat → Int32) : zAL (sAIr σ a r) = zAL σ := rfl
theorem zAR_sAIr (a : Nat) (r : Nat → Int32) : zAR (sAIr σ a r) = zAR σ := rfl
theorem zN_sAIr (a : Nat) (r : Nat → Int32) : zN (sAIr σ a r) = zN σ := rfl
theorem zsz_sAIr (a : Nat) (r : Nat → Int32) : zsz (sAIr σ a r) = zsz σ := rfl
theorem zbc_sAIr (a : Nat) (r : Nat → Int32) : zbc (sAIr σ a r) = zbc σ := rfl
theorem zbs_sAIr (a : Nat) (r : Nat → Int32) : zbs (sAIr σ a r) = zbs σ := rfl
theorem zK_sALr (a : Nat) (r : Nat → Int64) : zK (sALr σ a r) = zK σ := rfl
theorem zI_sALr (a : Nat) (r : Nat → Int64) : zI (sALr σ a r) = zI σ := rfl
theorem zL_sALr (a : Nat) (r : Nat → Int64) : zL (sALr σ a r) = zL σ := rfl
theorem zR_sALr (a : Nat) (r : Nat → Int64) : zR (sALr σ a r) = zR σ := rfl
theorem zAI_sALr (a : Nat) (r : Nat → Int64) : zAI (sALr σ a r) = zAI σ := rfl
theorem zAR_sALr (a : Nat) (r : Nat → Int64) : zAR (sALr σ a r) = zAR σ := rfl
theorem zN_sALr (a : Nat) (r : Nat → Int64) : zN (sALr σ a r) = zN σ := rfl
theorem zsz_sALr (a : Nat) (r : Nat → Int64) : zsz (sALr σ a r) = zsz σ := rfl
theorem zbc_sALr (a : Nat) (r : Nat → Int64) : zbc (sALr σ a r) = zbc σ := rfl
theorem zbs_sALr (a : Nat) (r : Nat → Int64) : zbs (sALr σ a r) = zbs σ := rfl
theorem zK_sARr (a : Nat) (r : Nat → Option Nat) : zK (sARr σ a r) = zK σ := rfl
theorem zI_sARr (a : Nat) (r : Nat → Option Nat) : zI (sARr σ a r) = zI σ := rfl
theorem zL_sARr (a : Nat) (r : Nat → Option Nat) : zL (sARr σ a r) = zL σ := rfl
theorem zR_sARr (a : Nat) (r : Nat → Option Nat) : zR (sARr σ a r) = zR σ := rfl
theorem zAI_sARr (a : Nat) (r : Nat → Option Nat) : zAI (sARr σ a r) = zAI σ := rfl
theorem zAL_sARr (a : Nat) (r : Nat → Option Nat) : zAL (sARr σ a r) = zAL σ := rfl
theorem zN_sARr (a : Nat) (r : Nat → Option Nat) : zN (sARr σ a r) = zN σ := rfl
theorem zsz_sARr (a : Nat) (r : Nat → Option Nat) : zsz (sARr σ a r) = zsz σ := rfl
theorem zbc_sARr (a : Nat) (r : Nat → Option Nat) : zbc (sARr σ a r) = zbc σ := rfl
theorem zbs_sARr (a : Nat) (r : Nat → Option Nat) : zbs (sARr σ a r) = zbs σ := rfl
theorem Mi_sI (m : Nat) (f a : Nat) (v : Int32) : MInv m (sI σ f a v) = MInv m σ := rfl
theorem Mi_sL (m : Nat) (f a : Nat) (v : Int64) : MInv m (sL σ f a v) = MInv m σ := rfl
theorem Mi_sAI (m : Nat) (a i : Nat) (v : Int32) : MInv m (sAI σ a i v) = MInv m σ := rfl
theorem Mi_sAL (m : Nat) (a i : Nat) (v : Int64) : MInv m (sAL σ a i v) = MInv m σ := rfl
theorem Mi_sAIr (m : Nat) (a : Nat) (r : Nat → Int32) : MInv m (sAIr σ a r) = MInv m σ := rfl
theorem Mi_sALr (m : Nat) (a : Nat) (r : Nat → Int64) : MInv m (sALr σ a r) = MInv m σ := rfl
end
