set_option maxRecDepth 100000
section
variable {σ : ZT} {s a1 a2 t : Nat} {T : Nat → Int32} {B P O : Nat → Nat}
theorem p_carried (h : SP σ s a1 a2 t T B P O) (hT : TW T) (p : Nat) : f_X5_carried s (nI p) σ = some (oI (lo T (zAI σ a2) p), σ) := by
  have hl := hT.1 3 (by decide)
  have hn := hT.2.2.2.2.1
  unfold lo
  generalize hN : fn T 3 = n at *
  unfold f_X5_carried
  by_cases h0 : n = 0
  · subst h0
    rw [loopC_step]
    simp (disch := first | exact h | omega | (simp only [Mi_sI, Mi_sL, Mi_sAI, Mi_sAL, Mi_sAIr, Mi_sALr]; exact h)) [f_X5_carried_L2, p500, p501, p502, pgI, pvc, pl1, pl2, ps1, ps2, t605, t606, t607, t608, tls, tlb, tlp, tlo, tvb, t600, t601, t602, t603, tb1101, tb1102, tb1103, tb1104, tb1105, tb1106, tb1107, tb1108, tb1109, tp1201, tp1202, tp1203, tp1204, tp1205, to1301, to1302, bnd2_s, bind_s, rz, lI, mI_eq, nI_add, pk_mul, nlt, nle, neq, nI_mI, mI_nI, nltm, mltn, nsub, zremN, zdivN, hl, oI]
  · rw [loopC_step]
    simp (disch := first | exact h | omega | (simp only [Mi_sI, Mi_sL, Mi_sAI, Mi_sAL, Mi_sAIr, Mi_sALr]; exact h)) [f_X5_carried_L2, p500, p501, p502, pgI, pvc, pl1, pl2, ps1, ps2, t605, t606, t607, t608, tls, tlb, tlp, tlo, tvb, t600, t601, t602, t603, tb1101, tb1102, tb1103, tb1104, tb1105, tb1106, tb1107, tb1108, tb1109, tp1201, tp1202, tp1203, tp1204, tp1205, to1301, to1302, bnd2_s, bind_s, rz, lI, mI_eq, nI_add, pk_mul, nlt, nle, neq, nI_mI, mI_nI, nltm, mltn, nsub, zremN, zdivN, hl]
    rw [if_pos (by omega)]
    by_cases e : zAI σ a2 0 = nI (6 + p)
    · simp [e, oI, show 0 < n by omega]
    · simp only [e, if_false, and_false]
      show Option.bind (loopC _ (nI 1, σ)) _ = _
      rw [loopC_step]
      simp (disch := first | exact h | omega | (simp only [Mi_sI, Mi_sL, Mi_sAI, Mi_sAL, Mi_sAIr, Mi_sALr]; exact h)) [f_X5_carried_L2, p500, p501, p502, pgI, pvc, pl1, pl2, ps1, ps2, t605, t606, t607, t608, tls, tlb, tlp, tlo, tvb, t600, t601, t602, t603, tb1101, tb1102, tb1103, tb1104, tb1105, tb1106, tb1107, tb1108, tb1109, tp1201, tp1202, tp1203, tp1204, tp1205, to1301, to1302, bnd2_s, bind_s, rz, lI, mI_eq, nI_add, pk_mul, nlt, nle, neq, nI_mI, mI_nI, nltm, mltn, nsub, zremN, zdivN, hl]
      by_cases h1 : n = 1
      · subst h1
        simp [oI]
      · rw [if_pos (by omega)]
        by_cases e1 : zAI σ a2 1 = nI (6 + p)
        · simp [e1, oI, show 1 < n by omega]
        · simp only [e1, if_false, and_false]
          show Option.bind (loopC _ (nI 2, σ)) _ = _
          rw [loopC_step]
          simp (disch := first | exact h | omega | (simp only [Mi_sI, Mi_sL, Mi_sAI, Mi_sAL, Mi_sAIr, Mi_sALr]; exact h)) [f_X5_carried_L2, p500, p501, p502, pgI, pvc, pl1, pl2, ps1, ps2, t605, t606, t607, t608, tls, tlb, tlp, tlo, tvb, t600, t601, t602, t603, tb1101, tb1102, tb1103, tb1104, tb1105, tb1106, tb1107, tb1108, tb1109, tp1201, tp1202, tp1203, tp1204, tp1205, to1301, to1302, bnd2_s, bind_s, rz, lI, mI_eq, nI_add, pk_mul, nlt, nle, neq, nI_mI, mI_nI, nltm, mltn, nsub, zremN, zdivN, hl, oI]
          rw [if_neg (by omega)]
          rfl
theorem p_heavy (h : SP σ s a1 a2 t T B P O) (hT : TW T) {p : Nat} (hp : p < fn T 2) : f_X5_heavy s (nI p) σ = some (sBurd T (zAI σ a2) p, σ) := by
  have h4 := hT.2.2.2.1
  have hn := hT.2.2.2.2.1
  unfold f_X5_heavy f_X5_heavy_J38
  simp (disch := first | exact h | omega | (simp only [Mi_sI, Mi_sL, Mi_sAI, Mi_sAL, Mi_sAIr, Mi_sALr]; exact h)) [p500, p501, p502, pgI, pvc, pl1, pl2, ps1, ps2, t605, t606, t607, t608, tls, tlb, tlp, tlo, tvb, t600, t601, t602, t603, tb1101, tb1102, tb1103, tb1104, tb1105, tb1106, tb1107, tb1108, tb1109, tp1201, tp1202, tp1203, tp1204, tp1205, to1301, to1302, bnd2_s, bind_s, rz, lI, mI_eq, nI_add, pk_mul, nlt, nle, neq, nI_mI, mI_nI, nltm, mltn, nsub, zremN, zdivN, p_carried h hT]
  unfold sBurd sLw
  cases hc : lo T (zAI σ a2) p with
  | none => simp (disch := omega) [oI, nltm, show mI < nI 0 from by decide]
  | some k =>
    have hk := (lo_lt hc).1
    simp (disch := first | exact h | omega | (simp only [Mi_sI, Mi_sL, Mi_sAI, Mi_sAL, Mi_sAIr, Mi_sALr]; exact h)) [p500, p501, p502, pgI, pvc, pl1, pl2, ps1, ps2, t605, t606, t607, t608, tls, tlb, tlp, tlo, tvb, t600, t601, t602, t603, tb1101, tb1102, tb1103, tb1104, tb1105, tb1106, tb1107, tb1108, tb1109, tp1201, tp1202, tp1203, tp1204, tp1205, to1301, to1302, bnd2_s, bind_s, rz, lI, mI_eq, nI_add, pk_mul, nlt, nle, neq, nI_mI, mI_nI, nltm, mltn, nsub, zremN, zdivN, oI]
def sPl (nw ly : Nat → Int32) (l : Nat) : Int32 := if ly l < nI 6 then ly l else nw ((ly l - nI 6).toNatClampNeg)
theorem p_placeOf (h : SP σ s a1 a2 t T B P O) (hT : TW T) (hS : SV T (zAI σ a1, zAI σ a2)) {l : Nat} (hl : l < fn T 3) : f_X5_placeOf s (nI l) σ = some (sPl (zAI σ a1) (zAI σ a2) l, σ) := by
  have hn := hT.2.2.2.2.1
  have h4 := hT.2.2.2.1
  have h0 := hT.2.1
  obtain ⟨g1, g2⟩ := hS.2.1 l hl
  have g1 : zAI σ a2 l = nI (fn (zAI σ a2) l) := g1
  have g2 : fn (zAI σ a2) l < fn T 0 ∨ 6 ≤ fn (zAI σ a2) l ∧ fn (zAI σ a2) l < 6 + fn T 2 := g2
  unfold f_X5_placeOf f_X5_placeOf_J34 sPl
  rw [g1]
  generalize fn (zAI σ a2) l = v at *
  by_cases e : v < 6
  · simp (disch := first | exact h | omega | (simp only [Mi_sI, Mi_sL, Mi_sAI, Mi_sAL, Mi_sAIr, Mi_sALr]; exact h)) [p500, p501, p502, pgI, pvc, pl1, pl2, ps1, ps2, t605, t606, t607, t608, tls, tlb, tlp, tlo, tvb, t600, t601, t602, t603, tb1101, tb1102, tb1103, tb1104, tb1105, tb1106, tb1107, tb1108, tb1109, tp1201, tp1202, tp1203, tp1204, tp1205, to1301, to1302, bnd2_s, bind_s, rz, lI, mI_eq, nI_add, pk_mul, nlt, nle, neq, nI_mI, mI_nI, nltm, mltn, nsub, zremN, zdivN, g1, e]
  · have e2 : nI v - nI 6 = nI (v - 6) := nsub (by omega)
    have e3 : (nI (v - 6)).toNatClampNeg = v - 6 := nI_clamp (by omega)
    simp (disch := first | exact h | omega | (simp only [Mi_sI, Mi_sL, Mi_sAI, Mi_sAL, Mi_sAIr, Mi_sALr]; exact h)) [p500, p501, p502, pgI, pvc, pl1, pl2, ps1, ps2, t605, t606, t607, t608, tls, tlb, tlp, tlo, tvb, t600, t601, t602, t603, tb1101, tb1102, tb1103, tb1104, tb1105, tb1106, tb1107, tb1108, tb1109, tp1201, tp1202, tp1203, tp1204, tp1205, to1301, to1302, bnd2_s, bind_s, rz, lI, mI_eq, nI_add, pk_mul, nlt, nle, neq, nI_mI, mI_nI, nltm, mltn, nsub, zremN, zdivN, g1, e, e2, e3]
theorem p_pull (h : SP σ s a1 a2 t T B P O) (hT : TW T) {b : Nat} (hb : b < fn T 1) : f_X11_pull (B b) σ = some (sTake T b, σ) := by
  have h8 := hT.2.2.1
  have h9 := hT.2.2.2.2.2.1 b hb
  have hne : ¬ T (14 + 9 * b + 4) = nI 0 := by
    rw [h9.1 4 (by decide), neq (by omega) (by decide)]
    omega
  unfold f_X11_pull zidiv sTake
  simp (disch := first | exact h | omega | (simp only [Mi_sI, Mi_sL, Mi_sAI, Mi_sAL, Mi_sAIr, Mi_sALr]; exact h)) [p500, p501, p502, pgI, pvc, pl1, pl2, ps1, ps2, t605, t606, t607, t608, tls, tlb, tlp, tlo, tvb, t600, t601, t602, t603, tb1101, tb1102, tb1103, tb1104, tb1105, tb1106, tb1107, tb1108, tb1109, tp1201, tp1202, tp1203, tp1204, tp1205, to1301, to1302, bnd2_s, bind_s, rz, lI, mI_eq, nI_add, pk_mul, nlt, nle, neq, nI_mI, mI_nI, nltm, mltn, nsub, zremN, zdivN, hne]
def sWgC (T nw ly : Nat → Int32) (ma mo : Int32) (p : Nat) : Int32 := foldN (fun l a => a + if sPl nw ly l = nI p then T (106 + 2 * l) else nI 0) (fn T 3) (foldN (fun q a => a + if nw q = nI p then T (86 + 5 * q) else nI 0) (fn T 2) (T (8 + p) + if nI p = ma then mo else nI 0))
theorem p_weightC (h : SP σ s a1 a2 t T B P O) (hT : TW T) (hS : SV T (zAI σ a1, zAI σ a2)) {p : Nat} (hp : p < 6) : f_X5_weight s (nI p) σ = some (sWgC T (zAI σ a1) (zAI σ a2) (zI σ 504 s) (zI σ 505 s) p, σ) := by
  have h2 := hT.1 2 (by decide)
  have h3 := hT.1 3 (by decide)
  have n2 := hT.2.2.2.1
  have n3 := hT.2.2.2.2.1
  have e1 : ∀ a0 : Int32, loopC (fun x : (Int32 × Int32 × ZT) => f_X5_weight_L29 s (nI p) x.1 x.2.1 x.2.2) (a0, nI 0, σ) = some (foldN (fun q a => a + if zAI σ a1 q = nI p then T (86 + 5 * q) else nI 0) (fn T 2) a0, σ) := by
    intro a0
    refine loop_go (fun k => (foldN (fun q a => a + if zAI σ a1 q = nI p then T (86 + 5 * q) else nI 0) k a0, nI k, σ)) (fn T 2) _ (fun k hk => ?_) ?_
    · unfold f_X5_weight_L29 f_X5_weight_J67_29
      simp (disch := first | exact h | omega | (simp only [Mi_sI, Mi_sL, Mi_sAI, Mi_sAL, Mi_sAIr, Mi_sALr]; exact h)) [p500, p501, p502, pgI, pvc, pl1, pl2, ps1, ps2, t605, t606, t607, t608, tls, tlb, tlp, tlo, tvb, t600, t601, t602, t603, tb1101, tb1102, tb1103, tb1104, tb1105, tb1106, tb1107, tb1108, tb1109, tp1201, tp1202, tp1203, tp1204, tp1205, to1301, to1302, bnd2_s, bind_s, rz, lI, mI_eq, nI_add, pk_mul, nlt, nle, neq, nI_mI, mI_nI, nltm, mltn, nsub, zremN, zdivN, h2, hk, foldN]
      split <;> rfl
    · unfold f_X5_weight_L29
      simp (disch := first | exact h | omega | (simp only [Mi_sI, Mi_sL, Mi_sAI, Mi_sAL, Mi_sAIr, Mi_sALr]; exact h)) [p500, p501, p502, pgI, pvc, pl1, pl2, ps1, ps2, t605, t606, t607, t608, tls, tlb, tlp, tlo, tvb, t600, t601, t602, t603, tb1101, tb1102, tb1103, tb1104, tb1105, tb1106, tb1107, tb1108, tb1109, tp1201, tp1202, tp1203, tp1204, tp1205, to1301, to1302, bnd2_s, bind_s, rz, lI, mI_eq, nI_add, pk_mul, nlt, nle, neq, nI_mI, mI_nI, nltm, mltn, nsub, zremN, zdivN, h2]
  have e2 : ∀ a0 : Int32, loopC (fun x : (Int32 × Int32 × ZT) => f_X5_weight_L77 s (nI p) x.1 x.2.1 x.2.2) (a0, nI 0, σ) = some (foldN (fun l a => a + if sPl (zAI σ a1) (zAI σ a2) l = nI p then T (106 + 2 * l) else nI 0) (fn T 3) a0, σ) := by
    intro a0
    refine loop_go (fun k => (foldN (fun l a => a + if sPl (zAI σ a1) (zAI σ a2) l = nI p then T (106 + 2 * l) else nI 0) k a0, nI k, σ)) (fn T 3) _ (fun k hk => ?_) ?_
    · unfold f_X5_weight_L77 f_X5_weight_J114_77
      simp (disch := first | exact h | omega | (simp only [Mi_sI, Mi_sL, Mi_sAI, Mi_sAL, Mi_sAIr, Mi_sALr]; exact h)) [p500, p501, p502, pgI, pvc, pl1, pl2, ps1, ps2, t605, t606, t607, t608, tls, tlb, tlp, tlo, tvb, t600, t601, t602, t603, tb1101, tb1102, tb1103, tb1104, tb1105, tb1106, tb1107, tb1108, tb1109, tp1201, tp1202, tp1203, tp1204, tp1205, to1301, to1302, bnd2_s, bind_s, rz, lI, mI_eq, nI_add, pk_mul, nlt, nle, neq, nI_mI, mI_nI, nltm, mltn, nsub, zremN, zdivN, h3, hk, foldN, p_placeOf h hT hS hk]
      split <;> rfl
    · unfold f_X5_weight_L77
      simp (disch := first | exact h | omega | (simp only [Mi_sI, Mi_sL, Mi_sAI, Mi_sAL, Mi_sAIr, Mi_sALr]; exact h)) [p500, p501, p502, pgI, pvc, pl1, pl2, ps1, ps2, t605, t606, t607, t608, tls, tlb, tlp, tlo, tvb, t600, t601, t602, t603, tb1101, tb1102, tb1103, tb1104, tb1105, tb1106, tb1107, tb1108, tb1109, tp1201, tp1202, tp1203, tp1204, tp1205, to1301, to1302, bnd2_s, bind_s, rz, lI, mI_eq, nI_add, pk_mul, nlt, nle, neq, nI_mI, mI_nI, nltm, mltn, nsub, zremN, zdivN, h3]
  unfold f_X5_weight f_X5_weight_J25 sWgC
  simp (disch := first | exact h | omega | (simp only [Mi_sI, Mi_sL, Mi_sAI, Mi_sAL, Mi_sAIr, Mi_sALr]; exact h)) [p500, p501, p502, pgI, pvc, pl1, pl2, ps1, ps2, t605, t606, t607, t608, tls, tlb, tlp, tlo, tvb, t600, t601, t602, t603, tb1101, tb1102, tb1103, tb1104, tb1105, tb1106, tb1107, tb1108, tb1109, tp1201, tp1202, tp1203, tp1204, tp1205, to1301, to1302, bnd2_s, bind_s, rz, lI, mI_eq, nI_add, pk_mul, nlt, nle, neq, nI_mI, mI_nI, nltm, mltn, nsub, zremN, zdivN, e1, e2]
  split <;> rfl
end
