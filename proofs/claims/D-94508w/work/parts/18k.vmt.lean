set_option maxRecDepth 100000
theorem h10 : (if (1 : Int32) = 0 then (none : Option Unit) else some ()) = some () := rfl
theorem h00 : (if (0 : Int32) = 0 then some () else (none : Option Unit)) = some () := rfl
theorem iz1 {j a : Nat} {σ : ZT} (h : zK σ a = 21 + j) : (izA j a σ).bind some = some 1 := by unfold izA; rw [if_pos h]; rfl
theorem iz0 {j a : Nat} {σ : ZT} (h : ¬ zK σ a = 21 + j) (h2 : 21 ≤ zK σ a ∧ zK σ a ≤ 24) : (izA j a σ).bind some = some 0 := by unfold izA; rw [if_neg h, if_pos h2]; rfl
theorem ck1 {j a : Nat} {σ : ZT} (h : zK σ a = 21 + j) : (ckA j a σ).bind some = some () := by unfold ckA; rw [if_pos h]; rfl
/-- an index beyond a row of numbers, and room for the exception -/
abbrev oobA (a : Nat) (i : Int32) (σ : ZT) : Prop := (21 ≤ zK σ a ∧ zK σ a ≤ 24) ∧ (i < 0 ∨ zN σ a ≤ i.toNatClampNeg) ∧ zN σ a ≤ 60 ∧ (3 ≤ zbc σ ∧ 222 ≤ zbs σ)
def zgo {β : Type} (σ : ZT) (k : ZT → Option β) : Option β := k σ
theorem t_X0_number {l : Launch} {G : ZG} (hfl : l.flags = flags0) (a : Nat) (i : Int32) (σ : ZT) (ho : oobA a i σ) : ZMX l G yX0_number cX0_number 3 (some .long) [] 8 [.ref a, .int i] σ Bundle.idxN (zsz σ + 2) (zgap σ 3 222) := by
  obtain ⟨hk, hi, hn, hr⟩ := ho
  refine ZMX.of [(0, .ref a), (1, .int i)] rfl (Nat.le_of_ble_eq_true rfl) fun X (C : ZC G RX0 "number" cX0_number 3 (some .long) [] X 8) hO => ?_
  refine z_aload_n (q := 1) (i := 0) C 0 dX0_number_0 rfl rfl rfl ?_
  by_cases e2 : zK σ a = 21 + 2
  · refine z_instA (q := 4) C 2 (by decide) q665 dX0_number_1 (iz1 e2) rfl fun v hv => ?_
    cases hv
    refine z_ifeq (q := 7) (tgt := 17) C dX0_number_4 (by decide) rfl h10 (fun c _ => absurd c (by decide)) (fun _ _ => ?_)
    refine z_aload_n (q := 8) (i := 0) C 0 dX0_number_7 rfl rfl rfl ?_
    refine z_castA (q := 11) C 2 (by decide) q665 dX0_number_8 (ck1 e2) rfl fun _ => ?_
    refine z_astore_n (q := 12) (i := 2) (lv' := [(2, .ref a), (0, .ref a), (1, .int i)]) C dX0_number_11 rfl (by decide) rfl rfl ?_
    refine z_aload_n (q := 13) (i := 2) C 0 dX0_number_12 rfl rfl rfl ?_
    refine z_iload_n (q := 14) (i := 1) C 2 dX0_number_13 rfl rfl rfl ?_
    exact z_baldT (rest := []) C hfl hO e2 hi hn hr (by decide) (by decide) rfl dX0_number_14
  refine z_instA (q := 4) C 2 (by decide) q665 dX0_number_1 (iz0 e2 hk) rfl fun v hv => ?_
  cases hv
  refine z_ifeq (q := 7) (tgt := 17) C dX0_number_4 (by decide) rfl h00 (fun _ _ => ?_) (fun c _ => absurd rfl c)
  refine z_aload_n (q := 18) (i := 0) C 0 dX0_number_17 rfl rfl rfl ?_
  by_cases e3 : zK σ a = 21 + 3
  · refine z_instA (q := 21) C 3 (by decide) q666 dX0_number_18 (iz1 e3) rfl fun v hv => ?_
    cases hv
    refine z_ifeq (q := 24) (tgt := 34) C dX0_number_21 (by decide) rfl h10 (fun c _ => absurd c (by decide)) (fun _ _ => ?_)
    refine z_aload_n (q := 25) (i := 0) C 0 dX0_number_24 rfl rfl rfl ?_
    refine z_castA (q := 28) C 3 (by decide) q666 dX0_number_25 (ck1 e3) rfl fun _ => ?_
    refine z_astore_n (q := 29) (i := 2) (lv' := [(2, .ref a), (0, .ref a), (1, .int i)]) C dX0_number_28 rfl (by decide) rfl rfl ?_
    refine z_aload_n (q := 30) (i := 2) C 0 dX0_number_29 rfl rfl rfl ?_
    refine z_iload_n (q := 31) (i := 1) C 2 dX0_number_30 rfl rfl rfl ?_
    exact z_saldT (rest := []) C hfl hO e3 hi hn hr (by decide) (by decide) rfl dX0_number_31
  refine z_instA (q := 21) C 3 (by decide) q666 dX0_number_18 (iz0 e3 hk) rfl fun v hv => ?_
  cases hv
  refine z_ifeq (q := 24) (tgt := 34) C dX0_number_21 (by decide) rfl h00 (fun _ _ => ?_) (fun c _ => absurd rfl c)
  refine z_aload_n (q := 35) (i := 0) C 0 dX0_number_34 rfl rfl rfl ?_
  by_cases e0 : zK σ a = 21 + 0
  · refine z_instA (q := 38) C 0 (by decide) q667 dX0_number_35 (iz1 e0) rfl fun v hv => ?_
    cases hv
    refine z_ifeq (q := 41) (tgt := 53) C dX0_number_38 (by decide) rfl h10 (fun c _ => absurd c (by decide)) (fun _ _ => ?_)
    refine z_aload_n (q := 42) (i := 0) C 0 dX0_number_41 rfl rfl rfl ?_
    refine z_castA (q := 45) C 0 (by decide) q667 dX0_number_42 (ck1 e0) rfl fun _ => ?_
    refine z_astore_n (q := 46) (i := 2) (lv' := [(2, .ref a), (0, .ref a), (1, .int i)]) C dX0_number_45 rfl (by decide) rfl rfl ?_
    refine z_aload_n (q := 47) (i := 2) C 0 dX0_number_46 rfl rfl rfl ?_
    refine z_iload_n (q := 48) (i := 1) C 2 dX0_number_47 rfl rfl rfl ?_
    exact z_ialdT (rest := []) C hfl hO e0 hi hn hr (by decide) (by decide) rfl dX0_number_48
  refine z_instA (q := 38) C 0 (by decide) q667 dX0_number_35 (iz0 e0 hk) rfl fun v hv => ?_
  cases hv
  refine z_ifeq (q := 41) (tgt := 53) C dX0_number_38 (by decide) rfl h00 (fun _ _ => ?_) (fun c _ => absurd rfl c)
  have e1 : zK σ a = 21 + 1 := by omega
  refine z_aload_n (q := 54) (i := 0) C 0 dX0_number_53 rfl rfl rfl ?_
  refine z_castA (q := 57) C 1 (by decide) q668 dX0_number_54 (ck1 e1) rfl fun _ => ?_
  refine z_iload_n (q := 58) (i := 1) C 1 dX0_number_57 rfl rfl rfl ?_
  exact z_laldT (rest := []) C hfl hO e1 hi hn hr (by decide) (by decide) rfl dX0_number_58
theorem t_X0_put {l : Launch} {G : ZG} (hfl : l.flags = flags0) (a : Nat) (i : Int32) (x : Int64) (σ : ZT) (ho : oobA a i σ) : ZMX l G yX0_put cX0_put 7 none [] 8 [.ref a, .int i, .long x] σ Bundle.idxN (zsz σ + 2) (zgap σ 3 222) := by
  obtain ⟨hk, hi, hn, hr⟩ := ho
  refine ZMX.of [(0, .ref a), (1, .int i), (2, .long x)] rfl (Nat.le_of_ble_eq_true rfl) fun X (C : ZC G RX0 "put" cX0_put 7 none [] X 8) hO => ?_
  refine z_aload_n (q := 1) (i := 0) C 0 dX0_put_0 rfl rfl rfl ?_
  by_cases e2 : zK σ a = 21 + 2
  · refine z_instA (q := 4) C 2 (by decide) q665 dX0_put_1 (iz1 e2) rfl fun v hv => ?_
    cases hv
    refine z_ifeq (q := 7) (tgt := 23) C dX0_put_4 (by decide) rfl h10 (fun c _ => absurd c (by decide)) (fun _ _ => ?_)
    refine z_aload_n (q := 8) (i := 0) C 0 dX0_put_7 rfl rfl rfl ?_
    refine z_castA (q := 11) C 2 (by decide) q665 dX0_put_8 (ck1 e2) rfl fun _ => ?_
    refine z_astore (q := 13) (i := 4) (lv' := [(4, .ref a), (0, .ref a), (1, .int i), (2, .long x)]) C dX0_put_11 (by decide) rfl rfl ?_
    refine z_aload (q := 15) (i := 4) C 0 dX0_put_13 rfl rfl ?_
    refine z_iload_n (q := 16) (i := 1) C 2 dX0_put_15 rfl rfl rfl ?_
    refine z_lload_n (q := 17) (i := 2) C 3 dX0_put_16 rfl rfl rfl ?_
    refine z_l2i (q := 18) C dX0_put_17 rfl ?_
    refine z_i2b (q := 19) C dX0_put_18 rfl ?_
    exact z_bastT (rest := []) C hfl hO e2 hi hn hr (by decide) (by decide) rfl dX0_put_19
  refine z_instA (q := 4) C 2 (by decide) q665 dX0_put_1 (iz0 e2 hk) rfl fun v hv => ?_
  cases hv
  refine z_ifeq (q := 7) (tgt := 23) C dX0_put_4 (by decide) rfl h00 (fun _ _ => ?_) (fun c _ => absurd rfl c)
  refine z_aload_n (q := 24) (i := 0) C 0 dX0_put_23 rfl rfl rfl ?_
  by_cases e3 : zK σ a = 21 + 3
  · refine z_instA (q := 27) C 3 (by decide) q666 dX0_put_24 (iz1 e3) rfl fun v hv => ?_
    cases hv
    refine z_ifeq (q := 30) (tgt := 46) C dX0_put_27 (by decide) rfl h10 (fun c _ => absurd c (by decide)) (fun _ _ => ?_)
    refine z_aload_n (q := 31) (i := 0) C 0 dX0_put_30 rfl rfl rfl ?_
    refine z_castA (q := 34) C 3 (by decide) q666 dX0_put_31 (ck1 e3) rfl fun _ => ?_
    refine z_astore (q := 36) (i := 5) (lv' := [(5, .ref a), (0, .ref a), (1, .int i), (2, .long x)]) C dX0_put_34 (by decide) rfl rfl ?_
    refine z_aload (q := 38) (i := 5) C 0 dX0_put_36 rfl rfl ?_
    refine z_iload_n (q := 39) (i := 1) C 2 dX0_put_38 rfl rfl rfl ?_
    refine z_lload_n (q := 40) (i := 2) C 3 dX0_put_39 rfl rfl rfl ?_
    refine z_l2i (q := 41) C dX0_put_40 rfl ?_
    refine z_i2s (q := 42) C dX0_put_41 rfl ?_
    exact z_sastT (rest := []) C hfl hO e3 hi hn hr (by decide) (by decide) rfl dX0_put_42
  refine z_instA (q := 27) C 3 (by decide) q666 dX0_put_24 (iz0 e3 hk) rfl fun v hv => ?_
  cases hv
  refine z_ifeq (q := 30) (tgt := 46) C dX0_put_27 (by decide) rfl h00 (fun _ _ => ?_) (fun c _ => absurd rfl c)
  refine z_aload_n (q := 47) (i := 0) C 0 dX0_put_46 rfl rfl rfl ?_
  by_cases e0 : zK σ a = 21 + 0
  · refine z_instA (q := 50) C 0 (by decide) q667 dX0_put_47 (iz1 e0) rfl fun v hv => ?_
    cases hv
    refine z_ifeq (q := 53) (tgt := 68) C dX0_put_50 (by decide) rfl h10 (fun c _ => absurd c (by decide)) (fun _ _ => ?_)
    refine z_aload_n (q := 54) (i := 0) C 0 dX0_put_53 rfl rfl rfl ?_
    refine z_castA (q := 57) C 0 (by decide) q667 dX0_put_54 (ck1 e0) rfl fun _ => ?_
    refine z_astore (q := 59) (i := 6) (lv' := [(6, .ref a), (0, .ref a), (1, .int i), (2, .long x)]) C dX0_put_57 (by decide) rfl rfl ?_
    refine z_aload (q := 61) (i := 6) C 0 dX0_put_59 rfl rfl ?_
    refine z_iload_n (q := 62) (i := 1) C 2 dX0_put_61 rfl rfl rfl ?_
    refine z_lload_n (q := 63) (i := 2) C 3 dX0_put_62 rfl rfl rfl ?_
    refine z_l2i (q := 64) C dX0_put_63 rfl ?_
    exact z_iastT (rest := []) C hfl hO e0 hi hn hr (by decide) (by decide) rfl dX0_put_64
  refine z_instA (q := 50) C 0 (by decide) q667 dX0_put_47 (iz0 e0 hk) rfl fun v hv => ?_
  cases hv
  refine z_ifeq (q := 53) (tgt := 68) C dX0_put_50 (by decide) rfl h00 (fun _ _ => ?_) (fun c _ => absurd rfl c)
  have e1 : zK σ a = 21 + 1 := by omega
  refine z_aload_n (q := 69) (i := 0) C 0 dX0_put_68 rfl rfl rfl ?_
  refine z_castA (q := 72) C 1 (by decide) q668 dX0_put_69 (ck1 e1) rfl fun _ => ?_
  refine z_iload_n (q := 73) (i := 1) C 1 dX0_put_72 rfl rfl rfl ?_
  refine z_lload_n (q := 74) (i := 2) C 2 dX0_put_73 rfl rfl rfl ?_
  exact z_lastT (rest := []) C hfl hO e1 hi hn hr (by decide) (by decide) rfl dX0_put_74
/-- a length below 0, and room for the exception -/
abbrev negA (n : Int32) (σ : ZT) : Prop := n < 0 ∧ (3 ≤ zbc σ ∧ 222 ≤ zbs σ)
theorem t_X0_row {l : Launch} {G : ZG} (hfl : l.flags = flags0) (s n : Int32) (σ : ZT) (ho : negA n σ) : ZMX l G yX0_row cX0_row 2 (some (.object "java/lang/Object")) [] 8 [.int s, .int n] σ zNase (zsz σ + 2) (zgap σ 3 222) := by
  obtain ⟨hn, hr⟩ := ho
  refine ZMX.of [(0, .int s), (1, .int n)] rfl (Nat.le_of_ble_eq_true rfl) fun X (C : ZC G RX0 "row" cX0_row 2 (some (.object "java/lang/Object")) [] X 8) hO => ?_
  refine z_iload_n (q := 1) (i := 0) C 0 dX0_row_0 rfl rfl rfl ?_
  have hT : ∀ p : Prop, [Decidable p] → (if p then some () else some ()) = some () := fun p _ => by split <;> rfl
  refine z_ifne (q := 4) (tgt := 10) C dX0_row_1 (by decide) rfl (hT (s = 0)) (fun _ _ => ?_) (fun _ _ => ?_)
  · refine z_iload_n (q := 11) (i := 0) C 0 dX0_row_10 rfl rfl rfl ?_
    refine z_iconst (q := 12) C (1 : Int32) dX0_row_11 (by decide) rfl ?_
    refine z_icmpne (q := 15) (tgt := 21) C dX0_row_12 (by decide) rfl (hT (s = 1)) (fun _ _ => ?_) (fun _ _ => ?_)
    · refine z_iload_n (q := 22) (i := 0) C 0 dX0_row_21 rfl rfl rfl ?_
      refine z_iconst (q := 23) C (2 : Int32) dX0_row_22 (by decide) rfl ?_
      refine z_icmpne (q := 26) (tgt := 32) C dX0_row_23 (by decide) rfl (hT (s = 2)) (fun _ _ => ?_) (fun _ _ => ?_)
      · refine z_iload_n (q := 33) (i := 1) C 1 dX0_row_32 rfl rfl rfl ?_
        exact z_newarrT (rest := []) C hfl hO hn hr (by decide) (by decide) rfl dX0_row_33
      · refine z_iload_n (q := 27) (i := 1) C 1 dX0_row_26 rfl rfl rfl ?_
        exact z_newarrT (rest := []) C hfl hO hn hr (by decide) (by decide) rfl dX0_row_27
    · refine z_iload_n (q := 16) (i := 1) C 1 dX0_row_15 rfl rfl rfl ?_
      exact z_newarrT (rest := []) C hfl hO hn hr (by decide) (by decide) rfl dX0_row_16
  · refine z_iload_n (q := 5) (i := 1) C 1 dX0_row_4 rfl rfl rfl ?_
    exact z_newarrT (rest := []) C hfl hO hn hr (by decide) (by decide) rfl dX0_row_5
