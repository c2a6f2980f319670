set_option maxRecDepth 100000
/-! ===== the component's numbers of states ===== -/
def enKN (q o : Nat) (a b : Nat → Nat) : Nat := foldN (fun j c => c * 6 + a (q - 1 - j)) q (foldN (fun j c => c * 10 + b (o - 1 - j)) o 0)
def enK (T : Nat → Int32) (s : St) : Nat := enKN (fn T 2) (fn T 3) (fn s.1) (fn s.2)
def deK (T : Nat → Int32) (c : Nat) : St := (fun p => nI (c / 6 ^ p % 6), fun l => nI (c / 6 ^ fn T 2 / 10 ^ l % 10))
theorem enKN_lt {q o : Nat} {a b : Nat → Nat} (hq : q ≤ 4) (ho : o ≤ 2) (ha : ∀ p, p < q → a p < 6) (hb : ∀ l, l < o → b l < 10) : enKN q o a b < 129600 := by
  have a0 := ha 0
  have a1 := ha 1
  have a2 := ha 2
  have a3 := ha 3
  have b0 := hb 0
  have b1 := hb 1
  rcases le4 hq with rfl | rfl | rfl | rfl | rfl <;> rcases le2 ho with rfl | rfl | rfl <;> simp [enKN, foldN] at * <;> omega
theorem deKN_P {q o : Nat} {a b : Nat → Nat} (hq : q ≤ 4) (ho : o ≤ 2) (ha : ∀ p, p < q → a p < 6) (hb : ∀ l, l < o → b l < 10) {p : Nat} (hp : p < q) : enKN q o a b / 6 ^ p % 6 = a p := by
  have a0 := ha 0
  have a1 := ha 1
  have a2 := ha 2
  have a3 := ha 3
  have b0 := hb 0
  have b1 := hb 1
  have hp4 : p = 0 ∨ p = 1 ∨ p = 2 ∨ p = 3 := by omega
  rcases le4 hq with rfl | rfl | rfl | rfl | rfl <;> rcases le2 ho with rfl | rfl | rfl <;> rcases hp4 with rfl | rfl | rfl | rfl <;> first | (exfalso; omega) | (simp [enKN, foldN] at *; omega)
theorem deKN_L {q o : Nat} {a b : Nat → Nat} (hq : q ≤ 4) (ho : o ≤ 2) (ha : ∀ p, p < q → a p < 6) (hb : ∀ l, l < o → b l < 10) {l : Nat} (hl : l < o) : enKN q o a b / 6 ^ q / 10 ^ l % 10 = b l := by
  have a0 := ha 0
  have a1 := ha 1
  have a2 := ha 2
  have a3 := ha 3
  have b0 := hb 0
  have b1 := hb 1
  have hl2 : l = 0 ∨ l = 1 := by omega
  rcases le4 hq with rfl | rfl | rfl | rfl | rfl <;> rcases le2 ho with rfl | rfl | rfl <;> rcases hl2 with rfl | rfl <;> first | (exfalso; omega) | (simp [enKN, foldN] at *; omega)
section
variable {T : Nat → Int32} {x x' : St}
theorem SV.enK_lt (hT : TW T) (h : SV T x) : enK T x < 129600 := enKN_lt hT.2.2.2.1 hT.2.2.2.2.1 (h.digits hT).1 (h.digits hT).2
theorem SV.deK (hT : TW T) (h : SV T x) : Agr T (deK T (enK T x)) x := by
  refine ⟨fun p hp => ?_, fun l hl => ?_⟩
  · rw [(h.1 p hp).1]
    show nI (enKN (fn T 2) (fn T 3) (fn x.1) (fn x.2) / 6 ^ p % 6) = _
    rw [deKN_P hT.2.2.2.1 hT.2.2.2.2.1 (h.digits hT).1 (h.digits hT).2 hp]
  · rw [(h.2.1 l hl).1]
    show nI (enKN (fn T 2) (fn T 3) (fn x.1) (fn x.2) / 6 ^ fn T 2 / 10 ^ l % 10) = _
    rw [deKN_L hT.2.2.2.1 hT.2.2.2.2.1 (h.digits hT).1 (h.digits hT).2 hl]
theorem Agr.enK' (h : Agr T x x') : enK T x = enK T x' := by
  unfold enK enKN
  have e0 : ∀ p, p < fn T 2 → fn x.1 p = fn x'.1 p := fun p hp => by unfold fn; rw [h.1 p hp]
  have e9 : ∀ p, p < fn T 3 → fn x.2 p = fn x'.2 p := fun p hp => by unfold fn; rw [h.2 p hp]
  have e1 : foldN (fun j c => c * 10 + fn x.2 (fn T 3 - 1 - j)) (fn T 3) 0 = foldN (fun j c => c * 10 + fn x'.2 (fn T 3 - 1 - j)) (fn T 3) 0 := foldN_congr (fun k hk y => by rw [e9 _ (by omega)])
  rw [e1]
  exact foldN_congr (fun k hk y => by rw [e0 _ (by omega)])
end
section
variable {σ : ZT} {s a1 a2 t : Nat} {T : Nat → Int32} {B P O : Nat → Nat}
theorem p_number (h : SP σ s a1 a2 t T B P O) (hT : TW T) (hp : ∀ p, p < fn T 2 → zAI σ a1 p = nI (fn (zAI σ a1) p)) (hl : ∀ p, p < fn T 3 → zAI σ a2 p = nI (fn (zAI σ a2) p)) : f_X5_number s σ = some (nI (enK T (zAI σ a1, zAI σ a2)), σ) := by
  have h2 := hT.1 2 (by decide)
  have h3 := hT.1 3 (by decide)
  have n2 := hT.2.2.2.1
  have n3 := hT.2.2.2.2.1
  have e1 : loopC (fun x : (Int32 × Int32 × ZT) => f_X5_number_L12 s x.1 x.2.1 x.2.2) (nI 0, nI (fn T 3) - nI 1, σ) = some (nI (foldN (fun j c => c * 10 + fn (zAI σ a2) (fn T 3 - 1 - j)) (fn T 3) 0), σ) := by
    refine loop_go (fun j => (nI (foldN (fun j c => c * 10 + fn (zAI σ a2) (fn T 3 - 1 - j)) j 0), nI (fn T 3 - j) - nI 1, σ)) (fn T 3) _ (fun k hk => ?_) ?_
    · have e : fn T 3 - k = (fn T 3 - 1 - k) + 1 := by omega
      have e' : fn T 3 - (k + 1) = fn T 3 - 1 - k := by omega
      unfold f_X5_number_L12
      rw [foldN, e, e', nsub (by omega), Nat.add_sub_cancel]
      simp (disch := first | exact h | omega | (simp only [Mi_sI, Mi_sL, Mi_sAI, Mi_sAL, Mi_sAIr, Mi_sALr]; exact h)) [p500, p501, p502, pgI, pvc, pl1, pl2, ps1, ps2, t605, t606, t607, t608, tls, tlb, tlp, tlo, tvb, t600, t601, t602, t603, tb1101, tb1102, tb1103, tb1104, tb1105, tb1106, tb1107, tb1108, tb1109, tp1201, tp1202, tp1203, tp1204, tp1205, to1301, to1302, bnd2_s, bind_s, rz, lI, mI_eq, nI_add, pk_mul, nlt, nle, neq, nI_mI, mI_nI, nltm, mltn, nsub, zremN, zdivN, nI_dn, hl]
    · unfold f_X5_number_L12
      rw [Nat.sub_self]
      rfl
  have e2 : ∀ c0 : Nat, loopC (fun x : (Int32 × Int32 × ZT) => f_X5_number_L44 s x.1 x.2.1 x.2.2) (nI c0, nI (fn T 2) - nI 1, σ) = some (nI (foldN (fun j c => c * 6 + fn (zAI σ a1) (fn T 2 - 1 - j)) (fn T 2) c0), σ) := by
    intro c0
    refine loop_go (fun j => (nI (foldN (fun j c => c * 6 + fn (zAI σ a1) (fn T 2 - 1 - j)) j c0), nI (fn T 2 - j) - nI 1, σ)) (fn T 2) _ (fun k hk => ?_) ?_
    · have e : fn T 2 - k = (fn T 2 - 1 - k) + 1 := by omega
      have e' : fn T 2 - (k + 1) = fn T 2 - 1 - k := by omega
      unfold f_X5_number_L44
      rw [foldN, e, e', nsub (by omega), Nat.add_sub_cancel]
      simp (disch := first | exact h | omega | (simp only [Mi_sI, Mi_sL, Mi_sAI, Mi_sAL, Mi_sAIr, Mi_sALr]; exact h)) [p500, p501, p502, pgI, pvc, pl1, pl2, ps1, ps2, t605, t606, t607, t608, tls, tlb, tlp, tlo, tvb, t600, t601, t602, t603, tb1101, tb1102, tb1103, tb1104, tb1105, tb1106, tb1107, tb1108, tb1109, tp1201, tp1202, tp1203, tp1204, tp1205, to1301, to1302, bnd2_s, bind_s, rz, lI, mI_eq, nI_add, pk_mul, nlt, nle, neq, nI_mI, mI_nI, nltm, mltn, nsub, zremN, zdivN, nI_dn, hp]
    · unfold f_X5_number_L44
      rw [Nat.sub_self]
      rfl
  unfold f_X5_number enK enKN
  simp (disch := first | exact h | omega | (simp only [Mi_sI, Mi_sL, Mi_sAI, Mi_sAL, Mi_sAIr, Mi_sALr]; exact h)) only [p500, p501, p502, pgI, pvc, pl1, pl2, ps1, ps2, t605, t606, t607, t608, tls, tlb, tlp, tlo, tvb, t600, t601, t602, t603, tb1101, tb1102, tb1103, tb1104, tb1105, tb1106, tb1107, tb1108, tb1109, tp1201, tp1202, tp1203, tp1204, tp1205, to1301, to1302, bnd2_s, bind_s, rz, lI, mI_eq, nI_add, pk_mul, nlt, nle, neq, nI_mI, mI_nI, nltm, mltn, nsub, zremN, zdivN, h2, h3, e1, e2]
def openK (T : Nat → Int32) (c : Nat) (x : St) : St := (mix (fn T 2) (deK T c).1 x.1, mix (fn T 3) (deK T c).2 x.2)
theorem openK_agr (T : Nat → Int32) (c : Nat) (x : St) : Agr T (openK T c x) (deK T c) := by
  refine ⟨fun p hp => ?_, fun l hl => ?_⟩
  · show mix _ _ _ p = _
    unfold mix
    rw [if_pos hp]
  · show mix _ _ _ l = _
    unfold mix
    rw [if_pos hl]
theorem p_beN (h : SP σ s a1 a2 t T B P O) (hT : TW T) {c : Nat} (hc : c < 2 ^ 31) : f_X5_be_2 s (nI c) σ = some (CN a1 a2 σ (openK T c (zAI σ a1, zAI σ a2))) := by
  have h2 := hT.1 2 (by decide)
  have h3 := hT.1 3 (by decide)
  have n2 := hT.2.2.2.1
  have n3 := hT.2.2.2.2.1
  have hne := h.1.2.2.2.2.2.2.1
  have e1 : loopC (fun x : (Int32 × Int32 × ZT) => f_X5_be_2_L4 s x.1 x.2.1 x.2.2) (nI c, nI 0, σ) = some (nI (c / 6 ^ fn T 2), sAIr σ a1 (mix (fn T 2) (deK T c).1 (zAI σ a1))) := by
    have := loop_go (body := fun x : (Int32 × Int32 × ZT) => f_X5_be_2_L4 s x.1 x.2.1 x.2.2) (fun k => (nI (c / 6 ^ k), nI k, sAIr σ a1 (mix k (deK T c).1 (zAI σ a1)))) (fn T 2) (nI (c / 6 ^ fn T 2), sAIr σ a1 (mix (fn T 2) (deK T c).1 (zAI σ a1))) (fun k hk => ?_) ?_
    · have e0 : mix 0 (deK T c).1 (zAI σ a1) = zAI σ a1 := by funext i; unfold mix; simp
      simp only [Nat.pow_zero, Nat.div_one, e0, sAIr_self] at this
      exact this
    · have hk10 : c / 6 ^ k < 2 ^ 31 := Nat.lt_of_le_of_lt (Nat.div_le_self _ _) hc
      have h1 := h.s1 (mix k (deK T c).1 (zAI σ a1))
      have hm : up (mix k (deK T c).1 (zAI σ a1)) k (nI (c / 6 ^ k % 6)) = mix (k + 1) (deK T c).1 (zAI σ a1) := by
        funext i
        unfold up mix deK
        by_cases e1 : i = k
        · subst e1; simp
        · by_cases e2 : i < k
          · simp [e1, e2, show i < k + 1 by omega]
          · simp [e1, e2, show ¬ i < k + 1 by omega]
      unfold f_X5_be_2_L4
      simp (disch := first | exact h1 | omega) [p500, p501, p502, pgI, pvc, pl1, pl2, ps1, ps2, t605, t606, t607, t608, tls, tlb, tlp, tlo, tvb, t600, t601, t602, t603, tb1101, tb1102, tb1103, tb1104, tb1105, tb1106, tb1107, tb1108, tb1109, tp1201, tp1202, tp1203, tp1204, tp1205, to1301, to1302, bnd2_s, bind_s, rz, lI, mI_eq, nI_add, pk_mul, nlt, nle, neq, nI_mI, mI_nI, nltm, mltn, nsub, zremN, zdivN, h2, zAIr_at, sAI_r, sAIr_sAIr, hk, hm, Nat.pow_succ, Nat.div_div_eq_div_mul]
    · have h1 := h.s1 (mix (fn T 2) (deK T c).1 (zAI σ a1))
      unfold f_X5_be_2_L4
      simp (disch := first | exact h1 | omega) [p500, p501, p502, pgI, pvc, pl1, pl2, ps1, ps2, t605, t606, t607, t608, tls, tlb, tlp, tlo, tvb, t600, t601, t602, t603, tb1101, tb1102, tb1103, tb1104, tb1105, tb1106, tb1107, tb1108, tb1109, tp1201, tp1202, tp1203, tp1204, tp1205, to1301, to1302, bnd2_s, bind_s, rz, lI, mI_eq, nI_add, pk_mul, nlt, nle, neq, nI_mI, mI_nI, nltm, mltn, nsub, zremN, zdivN, h2]
  have e2 : ∀ (d : Nat), d < 2 ^ 31 → ∀ τ : ZT, SP τ s a1 a2 t T B P O → loopC (fun x : (Int32 × Int32 × ZT) => f_X5_be_2_L38 s x.1 x.2.1 x.2.2) (nI d, nI 0, τ) = some (sAIr τ a2 (mix (fn T 3) (fun l => nI (d / 10 ^ l % 10)) (zAI τ a2))) := by
    intro d hd τ h
    have := loop_go (body := fun x : (Int32 × Int32 × ZT) => f_X5_be_2_L38 s x.1 x.2.1 x.2.2) (fun k => (nI (d / 10 ^ k), nI k, sAIr τ a2 (mix k (fun l => nI (d / 10 ^ l % 10)) (zAI τ a2)))) (fn T 3) (sAIr τ a2 (mix (fn T 3) (fun l => nI (d / 10 ^ l % 10)) (zAI τ a2))) (fun k hk => ?_) ?_
    · have e0 : mix 0 (fun l => nI (d / 10 ^ l % 10)) (zAI τ a2) = zAI τ a2 := by funext i; unfold mix; simp
      simp only [Nat.pow_zero, Nat.div_one, e0, sAIr_self] at this
      exact this
    · have hk10 : d / 10 ^ k < 2 ^ 31 := Nat.lt_of_le_of_lt (Nat.div_le_self _ _) hd
      have h1 := h.s2 (mix k (fun l => nI (d / 10 ^ l % 10)) (zAI τ a2))
      have hm : up (mix k (fun l => nI (d / 10 ^ l % 10)) (zAI τ a2)) k (nI (d / 10 ^ k % 10)) = mix (k + 1) (fun l => nI (d / 10 ^ l % 10)) (zAI τ a2) := by
        funext i
        unfold up mix
        by_cases e1 : i = k
        · subst e1; simp
        · by_cases e2 : i < k
          · simp [e1, e2, show i < k + 1 by omega]
          · simp [e1, e2, show ¬ i < k + 1 by omega]
      unfold f_X5_be_2_L38
      simp (disch := first | exact h1 | omega) [p500, p501, p502, pgI, pvc, pl1, pl2, ps1, ps2, t605, t606, t607, t608, tls, tlb, tlp, tlo, tvb, t600, t601, t602, t603, tb1101, tb1102, tb1103, tb1104, tb1105, tb1106, tb1107, tb1108, tb1109, tp1201, tp1202, tp1203, tp1204, tp1205, to1301, to1302, bnd2_s, bind_s, rz, lI, mI_eq, nI_add, pk_mul, nlt, nle, neq, nI_mI, mI_nI, nltm, mltn, nsub, zremN, zdivN, h3, zAIr_at, sAI_r, sAIr_sAIr, hk, hm, Nat.pow_succ, Nat.div_div_eq_div_mul]
    · have h1 := h.s2 (mix (fn T 3) (fun l => nI (d / 10 ^ l % 10)) (zAI τ a2))
      unfold f_X5_be_2_L38
      simp (disch := first | exact h1 | omega) [p500, p501, p502, pgI, pvc, pl1, pl2, ps1, ps2, t605, t606, t607, t608, tls, tlb, tlp, tlo, tvb, t600, t601, t602, t603, tb1101, tb1102, tb1103, tb1104, tb1105, tb1106, tb1107, tb1108, tb1109, tp1201, tp1202, tp1203, tp1204, tp1205, to1301, to1302, bnd2_s, bind_s, rz, lI, mI_eq, nI_add, pk_mul, nlt, nle, neq, nI_mI, mI_nI, nltm, mltn, nsub, zremN, zdivN, h3]
  have e3 := e2 (c / 6 ^ fn T 2) (Nat.lt_of_le_of_lt (Nat.div_le_self _ _) hc) _ (h.s1 (mix (fn T 2) (deK T c).1 (zAI σ a1)))
  unfold f_X5_be_2
  simp only [lI, e1, bind_s]
  rw [e3, zAIr_ne _ (Ne.symm hne), bind_s, sAIr_comm hne]
  rfl
end
