set_option maxRecDepth 100000
/-- what Throwable's constructor leaves: nothing but nulls -/
def fEx (ci a : Nat) (σ : ZT) : Option ZT := if zK σ a = ci + 1 then some (sR (sR (sR (sR σ 9900 a none) 9901 a none) 9902 a none) 9903 a none) else none
def gEx (u v : Option Nat) (ci a : Nat) (σ : ZT) : Option ZT := (pR ci 9900 a (some a) σ).bind fun σ => (pR ci 9901 a u σ).bind fun σ => (pR ci 9902 a v σ).bind fun σ => (pR ci 9901 a none σ).bind fun σ => (pR ci 9903 a none σ).bind fun σ => (pR ci 9900 a none σ).bind fun σ => (pR ci 9902 a none σ).bind fun σ => some σ
theorem gEx_eq (u v : Option Nat) (ci a : Nat) (σ : ZT) : gEx u v ci a σ = fEx ci a σ := by
  unfold gEx fEx
  by_cases h : zK σ a = ci + 1
  · have hk : ∀ (τ : ZT) (f : Nat) (x : Option Nat), zK τ a = ci + 1 → pR ci f a x τ = some (sR τ f a x) := fun τ f x h => by unfold pR; rw [if_pos h]
    have hs : ∀ (τ : ZT) (f : Nat) (x : Option Nat), zK (sR τ f a x) a = zK τ a := fun τ f x => rfl
    rw [if_pos h]
    simp only [hk, hs, h, Option.bind_some]
    have hz : z2 (z2 (z2 (z2 (z2 (z2 (z2 (zR σ) 9900 a (some a)) 9901 a u) 9902 a v) 9901 a none) 9903 a none) 9900 a none) 9902 a none = z2 (z2 (z2 (z2 (zR σ) 9900 a none) 9901 a none) 9902 a none) 9903 a none := by
      funext g b
      unfold z2
      by_cases hb : b = a
      · by_cases h0 : g = 9900
        · subst h0; simp [hb]
        · by_cases h1 : g = 9901
          · subst h1; simp [hb]
          · by_cases h2 : g = 9902
            · subst h2; simp [hb]
            · by_cases h3 : g = 9903
              · subst h3; simp [hb]
              · simp [h0, h1, h2, h3]
      · simp [hb]
    show some ((zK σ, zI σ, zL σ, z2 (z2 (z2 (z2 (z2 (z2 (z2 (zR σ) 9900 a (some a)) 9901 a u) 9902 a v) 9901 a none) 9903 a none) 9900 a none) 9902 a none, zAI σ, zAL σ, zAR σ, zN σ, zsz σ, zbc σ, zbs σ) : ZT) = some (zK σ, zI σ, zL σ, z2 (z2 (z2 (z2 (zR σ) 9900 a none) 9901 a none) 9902 a none) 9903 a none, zAI σ, zAL σ, zAR σ, zN σ, zsz σ, zbc σ, zbs σ)
    rw [hz]
  · have hk : ∀ (f : Nat) (x : Option Nat), pR ci f a x σ = none := fun f x => by unfold pR; rw [if_neg h]
    rw [if_neg h, hk]
    rfl
theorem pe2_7 {nm : String} : ZPu RJ0 nm 7 2 9900 (zTy 2 0) := ⟨RX2, TX2, 8, 0, "", zk2, by decide, rfl, rfl, Or.inl ⟨rfl, Or.inl q251⟩⟩
theorem pe2_17 {nm : String} : ZPu RJ0 nm 17 2 9901 (zTy 2 1) := ⟨RX2, TX2, 8, 1, "", zk2, by decide, rfl, rfl, Or.inl ⟨rfl, Or.inl q252⟩⟩
theorem pe2_24 {nm : String} : ZPu RJ0 nm 24 2 9902 (zTy 2 2) := ⟨RX2, TX2, 8, 2, "", zk2, by decide, rfl, rfl, Or.inl ⟨rfl, Or.inl q253⟩⟩
theorem pe2_31 {nm : String} : ZPu RJ0 nm 31 2 9903 (zTy 2 3) := ⟨RX2, TX2, 8, 3, "", zk2, by decide, rfl, rfl, Or.inl ⟨rfl, Or.inl q250⟩⟩
theorem pe3_7 {nm : String} : ZPu RJ0 nm 7 3 9900 (zTy 3 0) := ⟨RX3, TX3, 7, 0, "", zk3, by decide, rfl, rfl, Or.inl ⟨rfl, Or.inl q251⟩⟩
theorem pe3_17 {nm : String} : ZPu RJ0 nm 17 3 9901 (zTy 3 1) := ⟨RX3, TX3, 7, 1, "", zk3, by decide, rfl, rfl, Or.inl ⟨rfl, Or.inl q252⟩⟩
theorem pe3_24 {nm : String} : ZPu RJ0 nm 24 3 9902 (zTy 3 2) := ⟨RX3, TX3, 7, 2, "", zk3, by decide, rfl, rfl, Or.inl ⟨rfl, Or.inl q253⟩⟩
theorem pe3_31 {nm : String} : ZPu RJ0 nm 31 3 9903 (zTy 3 3) := ⟨RX3, TX3, 7, 3, "", zk3, by decide, rfl, rfl, Or.inl ⟨rfl, Or.inl q250⟩⟩
theorem pnJ0x : plainName RJ0 = true := by decide +kernel
theorem pnJ1x : plainName RJ1 = true := by decide +kernel
theorem viJ1_16x : ZIn RJ1 16 yJ0_init_2 cJ0_init_2 5 4 := ⟨Or.inl q242, q243, q244, rfl, by decide, by decide⟩
theorem viX2_1x : ZIn RX2 1 yJ1_init cJ1_init 5 4 := ⟨Or.inl q239, q240, q241, rfl, by decide, by decide⟩
theorem viX3_1x : ZIn RX3 1 yJ1_init cJ1_init 5 4 := ⟨Or.inl q279, q240, q241, rfl, by decide, by decide⟩
set_option maxHeartbeats 4000000 in
theorem m_Thr2 {l : Launch} {G : ZG} (a : Nat) (σ : ZT) {out : ZT} (hf : fEx 2 a σ = some out) : ZM l G yJ0_init_2 cJ0_init_2 5 none [] 2 [.ref a, .null, .null, .int (0 : Int32), .int (0 : Int32)] σ (.returned none) out := by
  refine ZM.of [(0, .ref a), (1, .null), (2, .null), (3, .int (0 : Int32)), (4, .int (0 : Int32))] rfl (Nat.le_of_ble_eq_true rfl) fun X (C : ZC G RJ0 "<init>" cJ0_init_2 5 none [] X 2) => ?_
  have key : ∀ u v : Option Nat, va_Z "java/lang/Throwable" "UNASSIGNED_STACK" "[Ljava/lang/StackTraceElement;" (va_rf u) (fun q => gb G ≤ q) (xs X) (gH G) → va_Z "java/lang/Throwable" "SUPPRESSED_SENTINEL" "Ljava/util/List;" (va_rf v) (fun q => gb G ≤ q) (xs X) (gH G) → ZW l G 5 X (ZQ G X (.returned none) out) σ 0 [(0, .ref a), (1, .null), (2, .null), (3, .int (0 : Int32)), (4, .int (0 : Int32))] [] := by
    intro u v hu hv
    rw [← gEx_eq u v] at hf
    unfold gEx at hf
    refine z_aload_n (q := 1) (i := 0) C 0 dJ0_init_2_0 rfl rfl rfl ?_
    refine z_objInit (q := 4) C q219 dJ0_init_2_1 rfl (by decide) (Nat.le_of_ble_eq_true rfl) ?_
    refine z_aload_n (q := 5) (i := 0) C 0 dJ0_init_2_4 rfl rfl rfl ?_
    refine z_aload_n (q := 6) (i := 0) C 0 dJ0_init_2_5 rfl rfl rfl ?_
    refine z_putR (q := 9) C pe2_7 rfl dJ0_init_2_6 hf rfl fun σ hf => ?_
    refine z_aload_n (q := 10) (i := 0) C 0 dJ0_init_2_9 rfl rfl rfl ?_
    refine z_gets (q := 13) C hu q220 dJ0_init_2_10 rfl ?_
    refine z_putQ (q := 16) C pe2_17 rfl dJ0_init_2_13 hf rfl fun σ hf => ?_
    refine z_aload_n (q := 17) (i := 0) C 0 dJ0_init_2_16 rfl rfl rfl ?_
    refine z_gets (q := 20) C hv q222 dJ0_init_2_17 rfl ?_
    refine z_putQ (q := 23) C pe2_24 rfl dJ0_init_2_20 hf rfl fun σ hf => ?_
    refine z_iload (q := 25) (i := 4) C 4 dJ0_init_2_23 rfl rfl ?_
    have hg : (if (0 : Int32) = 0 then some () else (none : Option Unit)) = some () := rfl
    refine z_ifeq (q := 28) (tgt := 36) C dJ0_init_2_25 (by decide) rfl hg (fun _ _ => ?_) (fun _ hg => by cases hg)
    refine z_aload_n (q := 37) (i := 0) C 0 dJ0_init_2_36 rfl rfl rfl ?_
    refine z_null (q := 38) C dJ0_init_2_37 rfl ?_
    refine z_putQ (q := 41) (v := none) C pe2_17 rfl dJ0_init_2_38 hf rfl fun σ hf => ?_
    refine z_aload_n (q := 42) (i := 0) C 0 dJ0_init_2_41 rfl rfl rfl ?_
    refine z_aload_nq (q := 43) (i := 1) (x := none) C 1 dJ0_init_2_42 rfl rfl rfl ?_
    refine z_putQ (q := 46) (v := none) C pe2_31 rfl dJ0_init_2_43 hf rfl fun σ hf => ?_
    refine z_aload_n (q := 47) (i := 0) C 0 dJ0_init_2_46 rfl rfl rfl ?_
    refine z_aload_nq (q := 48) (i := 2) (x := none) C 2 dJ0_init_2_47 rfl rfl rfl ?_
    refine z_putQ (q := 51) (v := none) C pe2_7 rfl dJ0_init_2_48 hf rfl fun σ hf => ?_
    refine z_iload_n (q := 52) (i := 3) C 3 dJ0_init_2_51 rfl rfl rfl ?_
    refine z_ifne (q := 55) (tgt := 60) C dJ0_init_2_52 (by decide) rfl hg (fun c _ => absurd rfl c) (fun _ _ => ?_)
    refine z_aload_n (q := 56) (i := 0) C 0 dJ0_init_2_55 rfl rfl rfl ?_
    refine z_null (q := 57) C dJ0_init_2_56 rfl ?_
    refine z_putQ (q := 60) (v := none) C pe2_24 rfl dJ0_init_2_57 hf rfl fun σ hf => ?_
    exact z_return C rfl dJ0_init_2_60 (Option.some.inj hf)
  rcases C.S.2.2.2.1 with h | ⟨t, h⟩ <;> rcases C.S.2.2.2.2.1 with h' | ⟨t', h'⟩
  · exact key none none h h'
  · exact key none (some t') h h'
  · exact key (some t) none h h'
  · exact key (some t) (some t') h h'
theorem m_Exc2 {l : Launch} {G : ZG} (a : Nat) (σ : ZT) {out : ZT} (hf : fEx 2 a σ = some out) : ZM l G yJ1_init cJ1_init 5 none [] 3 [.ref a, .null, .null, .int (0 : Int32), .int (0 : Int32)] σ (.returned none) out := by
  refine ZM.of [(0, .ref a), (1, .null), (2, .null), (3, .int (0 : Int32)), (4, .int (0 : Int32))] rfl (Nat.le_of_ble_eq_true rfl) fun X (C : ZC G RJ1 "<init>" cJ1_init 5 none [] X 3) => ?_
  have hf : (fEx 2 a σ).bind some = some out := by rw [hf]; rfl
  refine z_aload_n (q := 1) (i := 0) C 0 dJ1_init_0 rfl rfl rfl ?_
  refine z_aload_nq (q := 2) (i := 1) (x := none) C 1 dJ1_init_1 rfl rfl rfl ?_
  refine z_aload_nq (q := 3) (i := 2) (x := none) C 2 dJ1_init_2 rfl rfl rfl ?_
  refine z_iload_n (q := 4) (i := 3) C 3 dJ1_init_3 rfl rfl rfl ?_
  refine z_iload (q := 6) (i := 4) C 4 dJ1_init_4 rfl rfl ?_
  refine z_callIv (q := 9) (As := [.null, .null, .int (0 : Int32), .int (0 : Int32)]) C (fun o ho => m_Thr2 _ _ ho) viJ1_16x pnJ0x dJ1_init_6 rfl (by decide) (Nat.le_of_ble_eq_true rfl) hf rfl fun σ hf => ?_
  exact z_return C rfl dJ1_init_9 (Option.some.inj hf)
def f_X2_init (a : Nat) (σ : ZT) : Option ZT := fEx 2 a σ
theorem m_X2_init {l : Launch} {G : ZG} (a : Nat) (σ : ZT) {out : ZT} (hf : f_X2_init a σ = some out) : ZM l G yX2_init cX2_init 1 none [] 4 [.ref a] σ (.returned none) out := by
  refine ZM.of [(0, .ref a)] rfl (Nat.le_of_ble_eq_true rfl) fun X (C : ZC G RX2 "<init>" cX2_init 1 none [] X 4) => ?_
  unfold f_X2_init at hf
  have hf : (fEx 2 a σ).bind some = some out := by rw [hf]; rfl
  refine z_aload_n (q := 1) (i := 0) C 0 dX2_init_0 rfl rfl rfl ?_
  refine z_null (q := 2) C dX2_init_1 rfl ?_
  refine z_null (q := 3) C dX2_init_2 rfl ?_
  refine z_iconst (q := 4) C (0 : Int32) dX2_init_3 (by decide) rfl ?_
  refine z_iconst (q := 5) C (0 : Int32) dX2_init_4 (by decide) rfl ?_
  refine z_callIv (q := 8) (As := [.null, .null, .int (0 : Int32), .int (0 : Int32)]) C (fun o ho => m_Exc2 _ _ ho) viX2_1x pnJ1x dX2_init_5 rfl (by decide) (Nat.le_of_ble_eq_true rfl) hf rfl fun σ hf => ?_
  exact z_return C rfl dX2_init_8 (Option.some.inj hf)
set_option maxHeartbeats 4000000 in
theorem m_Thr3 {l : Launch} {G : ZG} (a : Nat) (σ : ZT) {out : ZT} (hf : fEx 3 a σ = some out) : ZM l G yJ0_init_2 cJ0_init_2 5 none [] 2 [.ref a, .null, .null, .int (0 : Int32), .int (0 : Int32)] σ (.returned none) out := by
  refine ZM.of [(0, .ref a), (1, .null), (2, .null), (3, .int (0 : Int32)), (4, .int (0 : Int32))] rfl (Nat.le_of_ble_eq_true rfl) fun X (C : ZC G RJ0 "<init>" cJ0_init_2 5 none [] X 2) => ?_
  have key : ∀ u v : Option Nat, va_Z "java/lang/Throwable" "UNASSIGNED_STACK" "[Ljava/lang/StackTraceElement;" (va_rf u) (fun q => gb G ≤ q) (xs X) (gH G) → va_Z "java/lang/Throwable" "SUPPRESSED_SENTINEL" "Ljava/util/List;" (va_rf v) (fun q => gb G ≤ q) (xs X) (gH G) → ZW l G 5 X (ZQ G X (.returned none) out) σ 0 [(0, .ref a), (1, .null), (2, .null), (3, .int (0 : Int32)), (4, .int (0 : Int32))] [] := by
    intro u v hu hv
    rw [← gEx_eq u v] at hf
    unfold gEx at hf
    refine z_aload_n (q := 1) (i := 0) C 0 dJ0_init_2_0 rfl rfl rfl ?_
    refine z_objInit (q := 4) C q219 dJ0_init_2_1 rfl (by decide) (Nat.le_of_ble_eq_true rfl) ?_
    refine z_aload_n (q := 5) (i := 0) C 0 dJ0_init_2_4 rfl rfl rfl ?_
    refine z_aload_n (q := 6) (i := 0) C 0 dJ0_init_2_5 rfl rfl rfl ?_
    refine z_putR (q := 9) C pe3_7 rfl dJ0_init_2_6 hf rfl fun σ hf => ?_
    refine z_aload_n (q := 10) (i := 0) C 0 dJ0_init_2_9 rfl rfl rfl ?_
    refine z_gets (q := 13) C hu q220 dJ0_init_2_10 rfl ?_
    refine z_putQ (q := 16) C pe3_17 rfl dJ0_init_2_13 hf rfl fun σ hf => ?_
    refine z_aload_n (q := 17) (i := 0) C 0 dJ0_init_2_16 rfl rfl rfl ?_
    refine z_gets (q := 20) C hv q222 dJ0_init_2_17 rfl ?_
    refine z_putQ (q := 23) C pe3_24 rfl dJ0_init_2_20 hf rfl fun σ hf => ?_
    refine z_iload (q := 25) (i := 4) C 4 dJ0_init_2_23 rfl rfl ?_
    have hg : (if (0 : Int32) = 0 then some () else (none : Option Unit)) = some () := rfl
    refine z_ifeq (q := 28) (tgt := 36) C dJ0_init_2_25 (by decide) rfl hg (fun _ _ => ?_) (fun _ hg => by cases hg)
    refine z_aload_n (q := 37) (i := 0) C 0 dJ0_init_2_36 rfl rfl rfl ?_
    refine z_null (q := 38) C dJ0_init_2_37 rfl ?_
    refine z_putQ (q := 41) (v := none) C pe3_17 rfl dJ0_init_2_38 hf rfl fun σ hf => ?_
    refine z_aload_n (q := 42) (i := 0) C 0 dJ0_init_2_41 rfl rfl rfl ?_
    refine z_aload_nq (q := 43) (i := 1) (x := none) C 1 dJ0_init_2_42 rfl rfl rfl ?_
    refine z_putQ (q := 46) (v := none) C pe3_31 rfl dJ0_init_2_43 hf rfl fun σ hf => ?_
    refine z_aload_n (q := 47) (i := 0) C 0 dJ0_init_2_46 rfl rfl rfl ?_
    refine z_aload_nq (q := 48) (i := 2) (x := none) C 2 dJ0_init_2_47 rfl rfl rfl ?_
    refine z_putQ (q := 51) (v := none) C pe3_7 rfl dJ0_init_2_48 hf rfl fun σ hf => ?_
    refine z_iload_n (q := 52) (i := 3) C 3 dJ0_init_2_51 rfl rfl rfl ?_
    refine z_ifne (q := 55) (tgt := 60) C dJ0_init_2_52 (by decide) rfl hg (fun c _ => absurd rfl c) (fun _ _ => ?_)
    refine z_aload_n (q := 56) (i := 0) C 0 dJ0_init_2_55 rfl rfl rfl ?_
    refine z_null (q := 57) C dJ0_init_2_56 rfl ?_
    refine z_putQ (q := 60) (v := none) C pe3_24 rfl dJ0_init_2_57 hf rfl fun σ hf => ?_
    exact z_return C rfl dJ0_init_2_60 (Option.some.inj hf)
  rcases C.S.2.2.2.1 with h | ⟨t, h⟩ <;> rcases C.S.2.2.2.2.1 with h' | ⟨t', h'⟩
  · exact key none none h h'
  · exact key none (some t') h h'
  · exact key (some t) none h h'
  · exact key (some t) (some t') h h'
theorem m_Exc3 {l : Launch} {G : ZG} (a : Nat) (σ : ZT) {out : ZT} (hf : fEx 3 a σ = some out) : ZM l G yJ1_init cJ1_init 5 none [] 3 [.ref a, .null, .null, .int (0 : Int32), .int (0 : Int32)] σ (.returned none) out := by
  refine ZM.of [(0, .ref a), (1, .null), (2, .null), (3, .int (0 : Int32)), (4, .int (0 : Int32))] rfl (Nat.le_of_ble_eq_true rfl) fun X (C : ZC G RJ1 "<init>" cJ1_init 5 none [] X 3) => ?_
  have hf : (fEx 3 a σ).bind some = some out := by rw [hf]; rfl
  refine z_aload_n (q := 1) (i := 0) C 0 dJ1_init_0 rfl rfl rfl ?_
  refine z_aload_nq (q := 2) (i := 1) (x := none) C 1 dJ1_init_1 rfl rfl rfl ?_
  refine z_aload_nq (q := 3) (i := 2) (x := none) C 2 dJ1_init_2 rfl rfl rfl ?_
  refine z_iload_n (q := 4) (i := 3) C 3 dJ1_init_3 rfl rfl rfl ?_
  refine z_iload (q := 6) (i := 4) C 4 dJ1_init_4 rfl rfl ?_
  refine z_callIv (q := 9) (As := [.null, .null, .int (0 : Int32), .int (0 : Int32)]) C (fun o ho => m_Thr3 _ _ ho) viJ1_16x pnJ0x dJ1_init_6 rfl (by decide) (Nat.le_of_ble_eq_true rfl) hf rfl fun σ hf => ?_
  exact z_return C rfl dJ1_init_9 (Option.some.inj hf)
def f_X3_init (a : Nat) (σ : ZT) : Option ZT := fEx 3 a σ
theorem m_X3_init {l : Launch} {G : ZG} (a : Nat) (σ : ZT) {out : ZT} (hf : f_X3_init a σ = some out) : ZM l G yX3_init cX3_init 1 none [] 4 [.ref a] σ (.returned none) out := by
  refine ZM.of [(0, .ref a)] rfl (Nat.le_of_ble_eq_true rfl) fun X (C : ZC G RX3 "<init>" cX3_init 1 none [] X 4) => ?_
  unfold f_X3_init at hf
  have hf : (fEx 3 a σ).bind some = some out := by rw [hf]; rfl
  refine z_aload_n (q := 1) (i := 0) C 0 dX3_init_0 rfl rfl rfl ?_
  refine z_null (q := 2) C dX3_init_1 rfl ?_
  refine z_null (q := 3) C dX3_init_2 rfl ?_
  refine z_iconst (q := 4) C (0 : Int32) dX3_init_3 (by decide) rfl ?_
  refine z_iconst (q := 5) C (0 : Int32) dX3_init_4 (by decide) rfl ?_
  refine z_callIv (q := 8) (As := [.null, .null, .int (0 : Int32), .int (0 : Int32)]) C (fun o ho => m_Exc3 _ _ ho) viX3_1x pnJ1x dX3_init_5 rfl (by decide) (Nat.le_of_ble_eq_true rfl) hf rfl fun σ hf => ?_
  exact z_return C rfl dX3_init_8 (Option.some.inj hf)
