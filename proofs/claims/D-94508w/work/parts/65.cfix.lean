set_option maxRecDepth 100000
/-! ===== the component's fixed objects, from x on ===== -/
def cOf : List Nat := [0, 1, 2, 3, 4, 5, 6, 7, 8, 9, 10, 17, 18, 19, 20, 21, 22, 23, 24, 25, 32, 33, 34, 35, 36, 37, 38, 39, 40, 41, 42, 43, 44, 45, 52, 53, 54, 55]
def cKd : List Nat := [1, 26, 2, 2, 2, 2, 23, 3, 4, 5, 6, 21, 21, 30, 8, 21, 21, 21, 21, 6, 21, 21, 21, 21, 25, 25, 21, 8, 21, 21, 21, 21, 9, 6, 21, 21, 21, 21]
def cLn : List Nat := [0, 4, 0, 0, 0, 0, 900, 0, 0, 0, 0, 4, 2, 3, 0, 120, 120, 120, 120, 0, 4, 2, 129600, 129600, 129600, 129600, 129600, 0, 120, 120, 120, 120, 0, 0, 4, 2, 6, 4]
def cRf : List Nat := [0, 1, 5, 6, 10, 11, 13, 14, 15, 16, 17, 19, 20, 21, 23, 25, 26, 400, 501, 502, 501, 502, 700, 701, 702, 703, 700, 701, 702, 703, 800, 501, 502]
def cRs : List Nat := [0, 0, 0, 0, 0, 0, 0, 0, 0, 0, 0, 0, 0, 0, 0, 0, 0, 9, 10, 10, 25, 25, 20, 20, 20, 20, 39, 39, 39, 39, 44, 45, 45]
def cRd : List Nat := [1, 6, 7, 8, 9, 19, 20, 25, 34, 35, 36, 37, 38, 39, 44, 54, 55, 10, 17, 18, 32, 33, 21, 22, 23, 24, 40, 41, 42, 43, 45, 52, 53]
def CInv (x : Nat) (σ : ZT) : Prop := (∀ k, k < 38 → zK σ (x + cOf.getD k 0) = cKd.getD k 0 ∧ (cLn.getD k 0 ≠ 0 → zN σ (x + cOf.getD k 0) = cLn.getD k 0)) ∧ (∀ k, k < 33 → zR σ (cRf.getD k 0) (x + cRs.getD k 0) = some (x + cRd.getD k 0)) ∧ ∀ k, k < 4 → zAR σ (x + 1) k = some (x + (2 + k))
section
variable {x : Nat} {σ : ZT} {α : Type}
theorem xk_0 (h : CInv x σ) : zK σ x = 1 := (h.1 0 (by decide)).1
theorem xk_1 (h : CInv x σ) : zK σ (x + 1) = 26 := (h.1 1 (by decide)).1
theorem xn_1 (h : CInv x σ) : zN σ (x + 1) = 4 := (h.1 1 (by decide)).2 (by decide)
theorem xk_2 (h : CInv x σ) : zK σ (x + 2) = 2 := (h.1 2 (by decide)).1
theorem xk_3 (h : CInv x σ) : zK σ (x + 3) = 2 := (h.1 3 (by decide)).1
theorem xk_4 (h : CInv x σ) : zK σ (x + 4) = 2 := (h.1 4 (by decide)).1
theorem xk_5 (h : CInv x σ) : zK σ (x + 5) = 2 := (h.1 5 (by decide)).1
theorem xk_6 (h : CInv x σ) : zK σ (x + 6) = 23 := (h.1 6 (by decide)).1
theorem xn_6 (h : CInv x σ) : zN σ (x + 6) = 900 := (h.1 6 (by decide)).2 (by decide)
theorem xk_7 (h : CInv x σ) : zK σ (x + 7) = 3 := (h.1 7 (by decide)).1
theorem xk_8 (h : CInv x σ) : zK σ (x + 8) = 4 := (h.1 8 (by decide)).1
theorem xk_9 (h : CInv x σ) : zK σ (x + 9) = 5 := (h.1 9 (by decide)).1
theorem xk_10 (h : CInv x σ) : zK σ (x + 10) = 6 := (h.1 10 (by decide)).1
theorem xk_17 (h : CInv x σ) : zK σ (x + 17) = 21 := (h.1 11 (by decide)).1
theorem xn_17 (h : CInv x σ) : zN σ (x + 17) = 4 := (h.1 11 (by decide)).2 (by decide)
theorem xk_18 (h : CInv x σ) : zK σ (x + 18) = 21 := (h.1 12 (by decide)).1
theorem xn_18 (h : CInv x σ) : zN σ (x + 18) = 2 := (h.1 12 (by decide)).2 (by decide)
theorem xk_19 (h : CInv x σ) : zK σ (x + 19) = 30 := (h.1 13 (by decide)).1
theorem xn_19 (h : CInv x σ) : zN σ (x + 19) = 3 := (h.1 13 (by decide)).2 (by decide)
theorem xk_20 (h : CInv x σ) : zK σ (x + 20) = 8 := (h.1 14 (by decide)).1
theorem xk_21 (h : CInv x σ) : zK σ (x + 21) = 21 := (h.1 15 (by decide)).1
theorem xn_21 (h : CInv x σ) : zN σ (x + 21) = 120 := (h.1 15 (by decide)).2 (by decide)
theorem xk_22 (h : CInv x σ) : zK σ (x + 22) = 21 := (h.1 16 (by decide)).1
theorem xn_22 (h : CInv x σ) : zN σ (x + 22) = 120 := (h.1 16 (by decide)).2 (by decide)
theorem xk_23 (h : CInv x σ) : zK σ (x + 23) = 21 := (h.1 17 (by decide)).1
theorem xn_23 (h : CInv x σ) : zN σ (x + 23) = 120 := (h.1 17 (by decide)).2 (by decide)
theorem xk_24 (h : CInv x σ) : zK σ (x + 24) = 21 := (h.1 18 (by decide)).1
theorem xn_24 (h : CInv x σ) : zN σ (x + 24) = 120 := (h.1 18 (by decide)).2 (by decide)
theorem xk_25 (h : CInv x σ) : zK σ (x + 25) = 6 := (h.1 19 (by decide)).1
theorem xk_32 (h : CInv x σ) : zK σ (x + 32) = 21 := (h.1 20 (by decide)).1
theorem xn_32 (h : CInv x σ) : zN σ (x + 32) = 4 := (h.1 20 (by decide)).2 (by decide)
theorem xk_33 (h : CInv x σ) : zK σ (x + 33) = 21 := (h.1 21 (by decide)).1
theorem xn_33 (h : CInv x σ) : zN σ (x + 33) = 2 := (h.1 21 (by decide)).2 (by decide)
theorem xk_34 (h : CInv x σ) : zK σ (x + 34) = 21 := (h.1 22 (by decide)).1
theorem xn_34 (h : CInv x σ) : zN σ (x + 34) = 129600 := (h.1 22 (by decide)).2 (by decide)
theorem xk_35 (h : CInv x σ) : zK σ (x + 35) = 21 := (h.1 23 (by decide)).1
theorem xn_35 (h : CInv x σ) : zN σ (x + 35) = 129600 := (h.1 23 (by decide)).2 (by decide)
theorem xk_36 (h : CInv x σ) : zK σ (x + 36) = 25 := (h.1 24 (by decide)).1
theorem xn_36 (h : CInv x σ) : zN σ (x + 36) = 129600 := (h.1 24 (by decide)).2 (by decide)
theorem xk_37 (h : CInv x σ) : zK σ (x + 37) = 25 := (h.1 25 (by decide)).1
theorem xn_37 (h : CInv x σ) : zN σ (x + 37) = 129600 := (h.1 25 (by decide)).2 (by decide)
theorem xk_38 (h : CInv x σ) : zK σ (x + 38) = 21 := (h.1 26 (by decide)).1
theorem xn_38 (h : CInv x σ) : zN σ (x + 38) = 129600 := (h.1 26 (by decide)).2 (by decide)
theorem xk_39 (h : CInv x σ) : zK σ (x + 39) = 8 := (h.1 27 (by decide)).1
theorem xk_40 (h : CInv x σ) : zK σ (x + 40) = 21 := (h.1 28 (by decide)).1
theorem xn_40 (h : CInv x σ) : zN σ (x + 40) = 120 := (h.1 28 (by decide)).2 (by decide)
theorem xk_41 (h : CInv x σ) : zK σ (x + 41) = 21 := (h.1 29 (by decide)).1
theorem xn_41 (h : CInv x σ) : zN σ (x + 41) = 120 := (h.1 29 (by decide)).2 (by decide)
theorem xk_42 (h : CInv x σ) : zK σ (x + 42) = 21 := (h.1 30 (by decide)).1
theorem xn_42 (h : CInv x σ) : zN σ (x + 42) = 120 := (h.1 30 (by decide)).2 (by decide)
theorem xk_43 (h : CInv x σ) : zK σ (x + 43) = 21 := (h.1 31 (by decide)).1
theorem xn_43 (h : CInv x σ) : zN σ (x + 43) = 120 := (h.1 31 (by decide)).2 (by decide)
theorem xk_44 (h : CInv x σ) : zK σ (x + 44) = 9 := (h.1 32 (by decide)).1
theorem xk_45 (h : CInv x σ) : zK σ (x + 45) = 6 := (h.1 33 (by decide)).1
theorem xk_52 (h : CInv x σ) : zK σ (x + 52) = 21 := (h.1 34 (by decide)).1
theorem xn_52 (h : CInv x σ) : zN σ (x + 52) = 4 := (h.1 34 (by decide)).2 (by decide)
theorem xk_53 (h : CInv x σ) : zK σ (x + 53) = 21 := (h.1 35 (by decide)).1
theorem xn_53 (h : CInv x σ) : zN σ (x + 53) = 2 := (h.1 35 (by decide)).2 (by decide)
theorem xk_54 (h : CInv x σ) : zK σ (x + 54) = 21 := (h.1 36 (by decide)).1
theorem xn_54 (h : CInv x σ) : zN σ (x + 54) = 6 := (h.1 36 (by decide)).2 (by decide)
theorem xk_55 (h : CInv x σ) : zK σ (x + 55) = 21 := (h.1 37 (by decide)).1
theorem xn_55 (h : CInv x σ) : zN σ (x + 55) = 4 := (h.1 37 (by decide)).2 (by decide)
theorem xr_0_0 (h : CInv x σ) : gR 0 0 x σ = some (x + 1) := gR_k (xk_0 h) (h.2.1 0 (by decide))
theorem xr_1_0 (h : CInv x σ) : gR 0 1 x σ = some (x + 6) := gR_k (xk_0 h) (h.2.1 1 (by decide))
theorem xr_5_0 (h : CInv x σ) : gR 0 5 x σ = some (x + 7) := gR_k (xk_0 h) (h.2.1 2 (by decide))
theorem xr_6_0 (h : CInv x σ) : gR 0 6 x σ = some (x + 8) := gR_k (xk_0 h) (h.2.1 3 (by decide))
theorem xr_10_0 (h : CInv x σ) : gR 0 10 x σ = some (x + 9) := gR_k (xk_0 h) (h.2.1 4 (by decide))
theorem xr_11_0 (h : CInv x σ) : gR 0 11 x σ = some (x + 19) := gR_k (xk_0 h) (h.2.1 5 (by decide))
theorem xr_13_0 (h : CInv x σ) : gR 0 13 x σ = some (x + 20) := gR_k (xk_0 h) (h.2.1 6 (by decide))
theorem xr_14_0 (h : CInv x σ) : gR 0 14 x σ = some (x + 25) := gR_k (xk_0 h) (h.2.1 7 (by decide))
theorem xr_15_0 (h : CInv x σ) : gR 0 15 x σ = some (x + 34) := gR_k (xk_0 h) (h.2.1 8 (by decide))
theorem xr_16_0 (h : CInv x σ) : gR 0 16 x σ = some (x + 35) := gR_k (xk_0 h) (h.2.1 9 (by decide))
theorem xr_17_0 (h : CInv x σ) : gR 0 17 x σ = some (x + 36) := gR_k (xk_0 h) (h.2.1 10 (by decide))
theorem xr_19_0 (h : CInv x σ) : gR 0 19 x σ = some (x + 37) := gR_k (xk_0 h) (h.2.1 11 (by decide))
theorem xr_20_0 (h : CInv x σ) : gR 0 20 x σ = some (x + 38) := gR_k (xk_0 h) (h.2.1 12 (by decide))
theorem xr_21_0 (h : CInv x σ) : gR 0 21 x σ = some (x + 39) := gR_k (xk_0 h) (h.2.1 13 (by decide))
theorem xr_23_0 (h : CInv x σ) : gR 0 23 x σ = some (x + 44) := gR_k (xk_0 h) (h.2.1 14 (by decide))
theorem xr_25_0 (h : CInv x σ) : gR 0 25 x σ = some (x + 54) := gR_k (xk_0 h) (h.2.1 15 (by decide))
theorem xr_26_0 (h : CInv x σ) : gR 0 26 x σ = some (x + 55) := gR_k (xk_0 h) (h.2.1 16 (by decide))
theorem xr_400_9 (h : CInv x σ) : gR 4 400 (x + 9) σ = some (x + 10) := gR_k (xk_9 h) (h.2.1 17 (by decide))
theorem xr_501_10 (h : CInv x σ) : gR 5 501 (x + 10) σ = some (x + 17) := gR_k (xk_10 h) (h.2.1 18 (by decide))
theorem xr_502_10 (h : CInv x σ) : gR 5 502 (x + 10) σ = some (x + 18) := gR_k (xk_10 h) (h.2.1 19 (by decide))
theorem xr_501_25 (h : CInv x σ) : gR 5 501 (x + 25) σ = some (x + 32) := gR_k (xk_25 h) (h.2.1 20 (by decide))
theorem xr_502_25 (h : CInv x σ) : gR 5 502 (x + 25) σ = some (x + 33) := gR_k (xk_25 h) (h.2.1 21 (by decide))
theorem xr_700_20 (h : CInv x σ) : gR 7 700 (x + 20) σ = some (x + 21) := gR_k (xk_20 h) (h.2.1 22 (by decide))
theorem xr_701_20 (h : CInv x σ) : gR 7 701 (x + 20) σ = some (x + 22) := gR_k (xk_20 h) (h.2.1 23 (by decide))
theorem xr_702_20 (h : CInv x σ) : gR 7 702 (x + 20) σ = some (x + 23) := gR_k (xk_20 h) (h.2.1 24 (by decide))
theorem xr_703_20 (h : CInv x σ) : gR 7 703 (x + 20) σ = some (x + 24) := gR_k (xk_20 h) (h.2.1 25 (by decide))
theorem xr_700_39 (h : CInv x σ) : gR 7 700 (x + 39) σ = some (x + 40) := gR_k (xk_39 h) (h.2.1 26 (by decide))
theorem xr_701_39 (h : CInv x σ) : gR 7 701 (x + 39) σ = some (x + 41) := gR_k (xk_39 h) (h.2.1 27 (by decide))
theorem xr_702_39 (h : CInv x σ) : gR 7 702 (x + 39) σ = some (x + 42) := gR_k (xk_39 h) (h.2.1 28 (by decide))
theorem xr_703_39 (h : CInv x σ) : gR 7 703 (x + 39) σ = some (x + 43) := gR_k (xk_39 h) (h.2.1 29 (by decide))
theorem xr_800_44 (h : CInv x σ) : gR 8 800 (x + 44) σ = some (x + 45) := gR_k (xk_44 h) (h.2.1 30 (by decide))
theorem xr_501_45 (h : CInv x σ) : gR 5 501 (x + 45) σ = some (x + 52) := gR_k (xk_45 h) (h.2.1 31 (by decide))
theorem xr_502_45 (h : CInv x σ) : gR 5 502 (x + 45) σ = some (x + 53) := gR_k (xk_45 h) (h.2.1 32 (by decide))
theorem xi_0 (h : CInv x σ) (f : Nat) : gI 0 f x σ = some (zI σ f x) := gI_k (xk_0 h)
theorem xp_0 (h : CInv x σ) (f : Nat) (v : Int32) : pI 0 f x v σ = some (sI σ f x v) := pI_k (xk_0 h) v
theorem xv_0 (h : CInv x σ) (y : Option α) : vc 0 x σ y = y := vc_k (xk_0 h) y
theorem xi_9 (h : CInv x σ) (f : Nat) : gI 4 f (x + 9) σ = some (zI σ f (x + 9)) := gI_k (xk_9 h)
theorem xp_9 (h : CInv x σ) (f : Nat) (v : Int32) : pI 4 f (x + 9) v σ = some (sI σ f (x + 9) v) := pI_k (xk_9 h) v
theorem xv_9 (h : CInv x σ) (y : Option α) : vc 4 (x + 9) σ y = y := vc_k (xk_9 h) y
theorem xi_10 (h : CInv x σ) (f : Nat) : gI 5 f (x + 10) σ = some (zI σ f (x + 10)) := gI_k (xk_10 h)
theorem xp_10 (h : CInv x σ) (f : Nat) (v : Int32) : pI 5 f (x + 10) v σ = some (sI σ f (x + 10) v) := pI_k (xk_10 h) v
theorem xv_10 (h : CInv x σ) (y : Option α) : vc 5 (x + 10) σ y = y := vc_k (xk_10 h) y
theorem xi_25 (h : CInv x σ) (f : Nat) : gI 5 f (x + 25) σ = some (zI σ f (x + 25)) := gI_k (xk_25 h)
theorem xp_25 (h : CInv x σ) (f : Nat) (v : Int32) : pI 5 f (x + 25) v σ = some (sI σ f (x + 25) v) := pI_k (xk_25 h) v
theorem xv_25 (h : CInv x σ) (y : Option α) : vc 5 (x + 25) σ y = y := vc_k (xk_25 h) y
theorem xi_45 (h : CInv x σ) (f : Nat) : gI 5 f (x + 45) σ = some (zI σ f (x + 45)) := gI_k (xk_45 h)
theorem xp_45 (h : CInv x σ) (f : Nat) (v : Int32) : pI 5 f (x + 45) v σ = some (sI σ f (x + 45) v) := pI_k (xk_45 h) v
theorem xv_45 (h : CInv x σ) (y : Option α) : vc 5 (x + 45) σ y = y := vc_k (xk_45 h) y
theorem xi_20 (h : CInv x σ) (f : Nat) : gI 7 f (x + 20) σ = some (zI σ f (x + 20)) := gI_k (xk_20 h)
theorem xp_20 (h : CInv x σ) (f : Nat) (v : Int32) : pI 7 f (x + 20) v σ = some (sI σ f (x + 20) v) := pI_k (xk_20 h) v
theorem xv_20 (h : CInv x σ) (y : Option α) : vc 7 (x + 20) σ y = y := vc_k (xk_20 h) y
theorem xi_39 (h : CInv x σ) (f : Nat) : gI 7 f (x + 39) σ = some (zI σ f (x + 39)) := gI_k (xk_39 h)
theorem xp_39 (h : CInv x σ) (f : Nat) (v : Int32) : pI 7 f (x + 39) v σ = some (sI σ f (x + 39) v) := pI_k (xk_39 h) v
theorem xv_39 (h : CInv x σ) (y : Option α) : vc 7 (x + 39) σ y = y := vc_k (xk_39 h) y
theorem xi_44 (h : CInv x σ) (f : Nat) : gI 8 f (x + 44) σ = some (zI σ f (x + 44)) := gI_k (xk_44 h)
theorem xp_44 (h : CInv x σ) (f : Nat) (v : Int32) : pI 8 f (x + 44) v σ = some (sI σ f (x + 44) v) := pI_k (xk_44 h) v
theorem xv_44 (h : CInv x σ) (y : Option α) : vc 8 (x + 44) σ y = y := vc_k (xk_44 h) y
theorem xl_17 (h : CInv x σ) {k : Nat} (hk : k < 4) : ldI 0 (x + 17) (nI k) σ = some (zAI σ (x + 17) k) := ldI_k (xk_17 h) (by rw [xn_17 h]; exact hk) (by omega)
theorem xs_17 (h : CInv x σ) {k : Nat} (hk : k < 4) (v : Int32) : stI (x + 17) (nI k) v σ = some (sAI σ (x + 17) k v) := stI_k (xk_17 h) (by rw [xn_17 h]; exact hk) (by omega) v
theorem xl_18 (h : CInv x σ) {k : Nat} (hk : k < 2) : ldI 0 (x + 18) (nI k) σ = some (zAI σ (x + 18) k) := ldI_k (xk_18 h) (by rw [xn_18 h]; exact hk) (by omega)
theorem xs_18 (h : CInv x σ) {k : Nat} (hk : k < 2) (v : Int32) : stI (x + 18) (nI k) v σ = some (sAI σ (x + 18) k v) := stI_k (xk_18 h) (by rw [xn_18 h]; exact hk) (by omega) v
theorem xl_21 (h : CInv x σ) {k : Nat} (hk : k < 120) : ldI 0 (x + 21) (nI k) σ = some (zAI σ (x + 21) k) := ldI_k (xk_21 h) (by rw [xn_21 h]; exact hk) (by omega)
theorem xs_21 (h : CInv x σ) {k : Nat} (hk : k < 120) (v : Int32) : stI (x + 21) (nI k) v σ = some (sAI σ (x + 21) k v) := stI_k (xk_21 h) (by rw [xn_21 h]; exact hk) (by omega) v
theorem xl_22 (h : CInv x σ) {k : Nat} (hk : k < 120) : ldI 0 (x + 22) (nI k) σ = some (zAI σ (x + 22) k) := ldI_k (xk_22 h) (by rw [xn_22 h]; exact hk) (by omega)
theorem xs_22 (h : CInv x σ) {k : Nat} (hk : k < 120) (v : Int32) : stI (x + 22) (nI k) v σ = some (sAI σ (x + 22) k v) := stI_k (xk_22 h) (by rw [xn_22 h]; exact hk) (by omega) v
theorem xl_23 (h : CInv x σ) {k : Nat} (hk : k < 120) : ldI 0 (x + 23) (nI k) σ = some (zAI σ (x + 23) k) := ldI_k (xk_23 h) (by rw [xn_23 h]; exact hk) (by omega)
theorem xs_23 (h : CInv x σ) {k : Nat} (hk : k < 120) (v : Int32) : stI (x + 23) (nI k) v σ = some (sAI σ (x + 23) k v) := stI_k (xk_23 h) (by rw [xn_23 h]; exact hk) (by omega) v
theorem xl_24 (h : CInv x σ) {k : Nat} (hk : k < 120) : ldI 0 (x + 24) (nI k) σ = some (zAI σ (x + 24) k) := ldI_k (xk_24 h) (by rw [xn_24 h]; exact hk) (by omega)
theorem xs_24 (h : CInv x σ) {k : Nat} (hk : k < 120) (v : Int32) : stI (x + 24) (nI k) v σ = some (sAI σ (x + 24) k v) := stI_k (xk_24 h) (by rw [xn_24 h]; exact hk) (by omega) v
theorem xl_32 (h : CInv x σ) {k : Nat} (hk : k < 4) : ldI 0 (x + 32) (nI k) σ = some (zAI σ (x + 32) k) := ldI_k (xk_32 h) (by rw [xn_32 h]; exact hk) (by omega)
theorem xs_32 (h : CInv x σ) {k : Nat} (hk : k < 4) (v : Int32) : stI (x + 32) (nI k) v σ = some (sAI σ (x + 32) k v) := stI_k (xk_32 h) (by rw [xn_32 h]; exact hk) (by omega) v
theorem xl_33 (h : CInv x σ) {k : Nat} (hk : k < 2) : ldI 0 (x + 33) (nI k) σ = some (zAI σ (x + 33) k) := ldI_k (xk_33 h) (by rw [xn_33 h]; exact hk) (by omega)
theorem xs_33 (h : CInv x σ) {k : Nat} (hk : k < 2) (v : Int32) : stI (x + 33) (nI k) v σ = some (sAI σ (x + 33) k v) := stI_k (xk_33 h) (by rw [xn_33 h]; exact hk) (by omega) v
theorem xl_34 (h : CInv x σ) {k : Nat} (hk : k < 129600) : ldI 0 (x + 34) (nI k) σ = some (zAI σ (x + 34) k) := ldI_k (xk_34 h) (by rw [xn_34 h]; exact hk) (by omega)
theorem xs_34 (h : CInv x σ) {k : Nat} (hk : k < 129600) (v : Int32) : stI (x + 34) (nI k) v σ = some (sAI σ (x + 34) k v) := stI_k (xk_34 h) (by rw [xn_34 h]; exact hk) (by omega) v
theorem xl_35 (h : CInv x σ) {k : Nat} (hk : k < 129600) : ldI 0 (x + 35) (nI k) σ = some (zAI σ (x + 35) k) := ldI_k (xk_35 h) (by rw [xn_35 h]; exact hk) (by omega)
theorem xs_35 (h : CInv x σ) {k : Nat} (hk : k < 129600) (v : Int32) : stI (x + 35) (nI k) v σ = some (sAI σ (x + 35) k v) := stI_k (xk_35 h) (by rw [xn_35 h]; exact hk) (by omega) v
theorem xl_36 (h : CInv x σ) {k : Nat} (hk : k < 129600) : ldI 4 (x + 36) (nI k) σ = some (zAI σ (x + 36) k) := ldI_k (xk_36 h) (by rw [xn_36 h]; exact hk) (by omega)
theorem xs_36 (h : CInv x σ) {k : Nat} (hk : k < 129600) {v : Int32} (hv : v = 0 ∨ v = 1) : stZ (x + 36) (nI k) v σ = some (sAI σ (x + 36) k v) := by
  unfold stZ
  have hc : (nI k).toNatClampNeg = k := nI_clamp (by omega)
  rw [if_pos ⟨xk_36 h, ⟨nI_pos (by omega), by rw [hc, xn_36 h]; exact hk⟩, hv⟩, hc]
theorem xl_37 (h : CInv x σ) {k : Nat} (hk : k < 129600) : ldI 4 (x + 37) (nI k) σ = some (zAI σ (x + 37) k) := ldI_k (xk_37 h) (by rw [xn_37 h]; exact hk) (by omega)
theorem xs_37 (h : CInv x σ) {k : Nat} (hk : k < 129600) {v : Int32} (hv : v = 0 ∨ v = 1) : stZ (x + 37) (nI k) v σ = some (sAI σ (x + 37) k v) := by
  unfold stZ
  have hc : (nI k).toNatClampNeg = k := nI_clamp (by omega)
  rw [if_pos ⟨xk_37 h, ⟨nI_pos (by omega), by rw [hc, xn_37 h]; exact hk⟩, hv⟩, hc]
theorem xl_38 (h : CInv x σ) {k : Nat} (hk : k < 129600) : ldI 0 (x + 38) (nI k) σ = some (zAI σ (x + 38) k) := ldI_k (xk_38 h) (by rw [xn_38 h]; exact hk) (by omega)
theorem xs_38 (h : CInv x σ) {k : Nat} (hk : k < 129600) (v : Int32) : stI (x + 38) (nI k) v σ = some (sAI σ (x + 38) k v) := stI_k (xk_38 h) (by rw [xn_38 h]; exact hk) (by omega) v
theorem xl_40 (h : CInv x σ) {k : Nat} (hk : k < 120) : ldI 0 (x + 40) (nI k) σ = some (zAI σ (x + 40) k) := ldI_k (xk_40 h) (by rw [xn_40 h]; exact hk) (by omega)
theorem xs_40 (h : CInv x σ) {k : Nat} (hk : k < 120) (v : Int32) : stI (x + 40) (nI k) v σ = some (sAI σ (x + 40) k v) := stI_k (xk_40 h) (by rw [xn_40 h]; exact hk) (by omega) v
theorem xl_41 (h : CInv x σ) {k : Nat} (hk : k < 120) : ldI 0 (x + 41) (nI k) σ = some (zAI σ (x + 41) k) := ldI_k (xk_41 h) (by rw [xn_41 h]; exact hk) (by omega)
theorem xs_41 (h : CInv x σ) {k : Nat} (hk : k < 120) (v : Int32) : stI (x + 41) (nI k) v σ = some (sAI σ (x + 41) k v) := stI_k (xk_41 h) (by rw [xn_41 h]; exact hk) (by omega) v
theorem xl_42 (h : CInv x σ) {k : Nat} (hk : k < 120) : ldI 0 (x + 42) (nI k) σ = some (zAI σ (x + 42) k) := ldI_k (xk_42 h) (by rw [xn_42 h]; exact hk) (by omega)
theorem xs_42 (h : CInv x σ) {k : Nat} (hk : k < 120) (v : Int32) : stI (x + 42) (nI k) v σ = some (sAI σ (x + 42) k v) := stI_k (xk_42 h) (by rw [xn_42 h]; exact hk) (by omega) v
theorem xl_43 (h : CInv x σ) {k : Nat} (hk : k < 120) : ldI 0 (x + 43) (nI k) σ = some (zAI σ (x + 43) k) := ldI_k (xk_43 h) (by rw [xn_43 h]; exact hk) (by omega)
theorem xs_43 (h : CInv x σ) {k : Nat} (hk : k < 120) (v : Int32) : stI (x + 43) (nI k) v σ = some (sAI σ (x + 43) k v) := stI_k (xk_43 h) (by rw [xn_43 h]; exact hk) (by omega) v
theorem xl_52 (h : CInv x σ) {k : Nat} (hk : k < 4) : ldI 0 (x + 52) (nI k) σ = some (zAI σ (x + 52) k) := ldI_k (xk_52 h) (by rw [xn_52 h]; exact hk) (by omega)
theorem xs_52 (h : CInv x σ) {k : Nat} (hk : k < 4) (v : Int32) : stI (x + 52) (nI k) v σ = some (sAI σ (x + 52) k v) := stI_k (xk_52 h) (by rw [xn_52 h]; exact hk) (by omega) v
theorem xl_53 (h : CInv x σ) {k : Nat} (hk : k < 2) : ldI 0 (x + 53) (nI k) σ = some (zAI σ (x + 53) k) := ldI_k (xk_53 h) (by rw [xn_53 h]; exact hk) (by omega)
theorem xs_53 (h : CInv x σ) {k : Nat} (hk : k < 2) (v : Int32) : stI (x + 53) (nI k) v σ = some (sAI σ (x + 53) k v) := stI_k (xk_53 h) (by rw [xn_53 h]; exact hk) (by omega) v
theorem xl_54 (h : CInv x σ) {k : Nat} (hk : k < 6) : ldI 0 (x + 54) (nI k) σ = some (zAI σ (x + 54) k) := ldI_k (xk_54 h) (by rw [xn_54 h]; exact hk) (by omega)
theorem xs_54 (h : CInv x σ) {k : Nat} (hk : k < 6) (v : Int32) : stI (x + 54) (nI k) v σ = some (sAI σ (x + 54) k v) := stI_k (xk_54 h) (by rw [xn_54 h]; exact hk) (by omega) v
theorem xl_55 (h : CInv x σ) {k : Nat} (hk : k < 4) : ldI 0 (x + 55) (nI k) σ = some (zAI σ (x + 55) k) := ldI_k (xk_55 h) (by rw [xn_55 h]; exact hk) (by omega)
theorem xs_55 (h : CInv x σ) {k : Nat} (hk : k < 4) (v : Int32) : stI (x + 55) (nI k) v σ = some (sAI σ (x + 55) k v) := stI_k (xk_55 h) (by rw [xn_55 h]; exact hk) (by omega) v
theorem Ci_sI (x : Nat) (f a : Nat) (v : Int32) : CInv x (sI σ f a v) = CInv x σ := rfl
theorem Ci_sL (x : Nat) (f a : Nat) (v : Int64) : CInv x (sL σ f a v) = CInv x σ := rfl
theorem Ci_sAI (x : Nat) (a i : Nat) (v : Int32) : CInv x (sAI σ a i v) = CInv x σ := rfl
theorem Ci_sAL (x : Nat) (a i : Nat) (v : Int64) : CInv x (sAL σ a i v) = CInv x σ := rfl
theorem Ci_sAIr (x : Nat) (a : Nat) (r : Nat → Int32) : CInv x (sAIr σ a r) = CInv x σ := rfl
theorem Ci_sALr (x : Nat) (a : Nat) (r : Nat → Int64) : CInv x (sALr σ a r) = CInv x σ := rfl
end
