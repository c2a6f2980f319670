set_option maxRecDepth 100000
section
variable {σ : ZT} {s a1 a2 t : Nat} {T : Nat → Int32} {B P O : Nat → Nat}
theorem led01 (hT : TW T) {q : Nat} (hq : q < fn T 2) : T (86 + 5 * q + 4) = nI 0 ∨ T (86 + 5 * q + 4) = nI 1 := by
  obtain ⟨-, -, -, -, -, -, -, h8, h9⟩ := hT.2.2.2.2.2.2.1 q hq
  rw [h8]
  have : fn T (86 + 5 * q + 4) = 0 ∨ fn T (86 + 5 * q + 4) = 1 := by omega
  rcases this with e | e <;> rw [e] <;> simp
theorem n1n0 : ¬ nI 1 = nI 0 := by decide
theorem n0n1 : ¬ nI 0 = nI 1 := by decide
theorem mlt0 : mI < nI 0 := by decide
def sHgC (T nw ly : Nat → Int32) (wo ma mo : Int32) (b : Nat) (less : Int32) : Bool := if nI b = wo then false else sHang T nw ly wo ma mo b less
theorem p_hangs2' (h : SP σ s a1 a2 t T B P O) (hT : TW T) (hS : SV T (zAI σ a1, zAI σ a2)) {b : Nat} (hb : b < fn T 1) (less : Int32) : f_X5_hangs_2 s (nI b) less σ = some (bI (sHgC T (zAI σ a1) (zAI σ a2) (zI σ 503 s) (zI σ 504 s) (zI σ 505 s) b less), σ) := by
  rw [p_hangs2 h hT hS hb]
  unfold sHgC
  split <;> rfl
theorem p_why89 (h : SP σ s a1 a2 t T B P O) (hT : TW T) (hS : SV T (zAI σ a1, zAI σ a2)) {a br : Nat} {b : Option Nat} (ha : a < fn T 2) (hb : ∀ q, b = some q → q < fn T 2) (hbr : br < fn T 1) (w less : Int32) : f_X5_why_J89 s (nI a) (oI b) (B br) w less (nI br) s σ = some (nI (if sHgC T (zAI σ a1) (zAI σ a2) (zI σ 503 s) (zI σ 504 s) (zI σ 505 s) br less = true then (if T (14 + 9 * br + 5) < w then 3 else if T (86 + 5 * a + 4) = nI 1 ∧ oLed T b = true then 4 else 0) else 2), σ) := by
  have h8 := hT.2.2.1
  have h4 := hT.2.2.2.1
  unfold f_X5_why_J89 f_X5_why_J143 f_X5_why_J147 f_X5_why_J148
  rw [p_hangs2' h hT hS hbr]
  cases hh : sHgC T (zAI σ a1) (zAI σ a2) (zI σ 503 s) (zI σ 504 s) (zI σ 505 s) br less with
  | false => simp (disch := first | exact h | omega | (simp only [Mi_sI, Mi_sL, Mi_sAI, Mi_sAL, Mi_sAIr, Mi_sALr]; exact h)) [p500, p501, p502, pgI, pvc, pl1, pl2, ps1, ps2, t605, t606, t607, t608, tls, tlb, tlp, tlo, tvb, t600, t601, t602, t603, tb1101, tb1102, tb1103, tb1104, tb1105, tb1106, tb1107, tb1108, tb1109, tp1201, tp1202, tp1203, tp1204, tp1205, to1301, to1302, bnd2_s, bind_s, rz, lI, mI_eq, nI_add, pk_mul, nlt, nle, neq, nI_mI, mI_nI, nltm, mltn, nsub, zremN, zdivN, bI]
  | true =>
    simp (disch := first | exact h | omega | (simp only [Mi_sI, Mi_sL, Mi_sAI, Mi_sAL, Mi_sAIr, Mi_sALr]; exact h)) [p500, p501, p502, pgI, pvc, pl1, pl2, ps1, ps2, t605, t606, t607, t608, tls, tlb, tlp, tlo, tvb, t600, t601, t602, t603, tb1101, tb1102, tb1103, tb1104, tb1105, tb1106, tb1107, tb1108, tb1109, tp1201, tp1202, tp1203, tp1204, tp1205, to1301, to1302, bnd2_s, bind_s, rz, lI, mI_eq, nI_add, pk_mul, nlt, nle, neq, nI_mI, mI_nI, nltm, mltn, nsub, zremN, zdivN, bI]
    by_cases e1 : T (14 + 9 * br + 5) < w
    · simp only [e1, if_true]
    · simp only [e1, if_false]
      rcases led01 hT ha with e2 | e2
      · simp only [e2, if_true, n0n1, if_false, false_and]
      · simp only [e2, n1n0, if_false, if_true, true_and]
        cases b with
        | none => simp [oI, oLed, mlt0]
        | some q =>
          have hq := hb q rfl
          rcases led01 hT hq with e3 | e3
          · simp (disch := first | exact h | omega | (simp only [Mi_sI, Mi_sL, Mi_sAI, Mi_sAL, Mi_sAIr, Mi_sALr]; exact h)) [p500, p501, p502, pgI, pvc, pl1, pl2, ps1, ps2, t605, t606, t607, t608, tls, tlb, tlp, tlo, tvb, t600, t601, t602, t603, tb1101, tb1102, tb1103, tb1104, tb1105, tb1106, tb1107, tb1108, tb1109, tp1201, tp1202, tp1203, tp1204, tp1205, to1301, to1302, bnd2_s, bind_s, rz, lI, mI_eq, nI_add, pk_mul, nlt, nle, neq, nI_mI, mI_nI, nltm, mltn, nsub, zremN, zdivN, oI, oLed, e3, n0n1]
          · simp (disch := first | exact h | omega | (simp only [Mi_sI, Mi_sL, Mi_sAI, Mi_sAL, Mi_sAIr, Mi_sALr]; exact h)) [p500, p501, p502, pgI, pvc, pl1, pl2, ps1, ps2, t605, t606, t607, t608, tls, tlb, tlp, tlo, tvb, t600, t601, t602, t603, tb1101, tb1102, tb1103, tb1104, tb1105, tb1106, tb1107, tb1108, tb1109, tp1201, tp1202, tp1203, tp1204, tp1205, to1301, to1302, bnd2_s, bind_s, rz, lI, mI_eq, nI_add, pk_mul, nlt, nle, neq, nI_mI, mI_nI, nltm, mltn, nsub, zremN, zdivN, oI, oLed, e3, n1n0]
theorem p_why46 (h : SP σ s a1 a2 t T B P O) (hT : TW T) (hS : SV T (zAI σ a1, zAI σ a2)) {a br : Nat} {b : Option Nat} (ha : a < fn T 2) (hb : ∀ q, b = some q → q < fn T 2) (hbr : br < fn T 1) : f_X5_why_J46 s (nI a) (oI b) (nI br) (B br) σ = some (nI (if sHgC T (zAI σ a1) (zAI σ a2) (zI σ 503 s) (zI σ 504 s) (zI σ 505 s) br (if zAI σ a1 a = T (14 + 9 * br + 2) then sBurd T (zAI σ a2) a + oB T (zAI σ a2) b else nI 0) = true then (if T (14 + 9 * br + 5) < sBurd T (zAI σ a2) a + oB T (zAI σ a2) b then 3 else if T (86 + 5 * a + 4) = nI 1 ∧ oLed T b = true then 4 else 0) else 2), σ) := by
  have h8 := hT.2.2.1
  have h4 := hT.2.2.2.1
  have key : ∀ x y : Int32, f_X5_why_J64 s (nI a) (oI b) (nI br) (B br) y x σ = some (nI (if sHgC T (zAI σ a1) (zAI σ a2) (zI σ 503 s) (zI σ 504 s) (zI σ 505 s) br (if zAI σ a1 a = T (14 + 9 * br + 2) then x + y else nI 0) = true then (if T (14 + 9 * br + 5) < x + y then 3 else if T (86 + 5 * a + 4) = nI 1 ∧ oLed T b = true then 4 else 0) else 2), σ) := by
    intro x y
    unfold f_X5_why_J64
    simp (disch := first | exact h | omega | (simp only [Mi_sI, Mi_sL, Mi_sAI, Mi_sAL, Mi_sAIr, Mi_sALr]; exact h)) [p500, p501, p502, pgI, pvc, pl1, pl2, ps1, ps2, t605, t606, t607, t608, tls, tlb, tlp, tlo, tvb, t600, t601, t602, t603, tb1101, tb1102, tb1103, tb1104, tb1105, tb1106, tb1107, tb1108, tb1109, tp1201, tp1202, tp1203, tp1204, tp1205, to1301, to1302, bnd2_s, bind_s, rz, lI, p_why89 h hT hS ha hb hbr]
    by_cases e : zAI σ a1 a = T (14 + 9 * br + 2)
    · simp only [e, if_true]
    · simp only [e, if_false]
  unfold f_X5_why_J46
  cases b with
  | none =>
    simp (disch := first | exact h | omega | (simp only [Mi_sI, Mi_sL, Mi_sAI, Mi_sAL, Mi_sAIr, Mi_sALr]; exact h)) only [p500, p501, p502, pgI, pvc, pl1, pl2, ps1, ps2, t605, t606, t607, t608, tls, tlb, tlp, tlo, tvb, t600, t601, t602, t603, tb1101, tb1102, tb1103, tb1104, tb1105, tb1106, tb1107, tb1108, tb1109, tp1201, tp1202, tp1203, tp1204, tp1205, to1301, to1302, bnd2_s, bind_s, rz, lI, mI_eq, nI_add, pk_mul, nlt, nle, neq, nI_mI, mI_nI, nltm, mltn, nsub, zremN, zdivN, p_heavy h hT, oI, mlt0, if_true, if_false]
    exact key _ _
  | some q =>
    have hq := hb q rfl
    simp (disch := first | exact h | omega | (simp only [Mi_sI, Mi_sL, Mi_sAI, Mi_sAL, Mi_sAIr, Mi_sALr]; exact h)) only [p500, p501, p502, pgI, pvc, pl1, pl2, ps1, ps2, t605, t606, t607, t608, tls, tlb, tlp, tlo, tvb, t600, t601, t602, t603, tb1101, tb1102, tb1103, tb1104, tb1105, tb1106, tb1107, tb1108, tb1109, tp1201, tp1202, tp1203, tp1204, tp1205, to1301, to1302, bnd2_s, bind_s, rz, lI, mI_eq, nI_add, pk_mul, nlt, nle, neq, nI_mI, mI_nI, nltm, mltn, nsub, zremN, zdivN, p_heavy h hT, oI, Nat.not_lt_zero, if_true, if_false]
    exact key _ _
/-- the component's own reason: a bridge that is not there doesn't hang -/
def sWhC (T nw ly : Nat → Int32) (wo ma mo : Int32) (a : Nat) (b : Option Nat) (br : Nat) : Nat :=
  if (nw a = T (14 + 9 * br) ∨ nw a = T (14 + 9 * br + 1)) ∧ oAt nw (nw a) b = true then
    if sHgC T nw ly wo ma mo br (if nw a = T (14 + 9 * br + 2) then sBurd T ly a + oB T ly b else nI 0) = true then
      if T (14 + 9 * br + 5) < sBurd T ly a + oB T ly b then 3
      else if T (86 + 5 * a + 4) = nI 1 ∧ oLed T b = true then 4 else 0
    else 2
  else 1
theorem sWhC_eq (T nw ly : Nat → Int32) (wo ma mo : Int32) (a : Nat) (b : Option Nat) (br : Nat) (h : ¬ nI br = wo) : sWhC T nw ly wo ma mo a b br = sWhy T nw ly wo ma mo a b br := by
  unfold sWhC sWhy sHgC
  simp only [h, if_false]
theorem sWhC_gone (T nw ly : Nat → Int32) (wo ma mo : Int32) (a : Nat) (b : Option Nat) (br : Nat) (h : nI br = wo) : 0 < sWhC T nw ly wo ma mo a b br := by
  unfold sWhC sHgC
  simp only [h, if_true]
  split
  · simp
  · omega
theorem sWhC_lt (T nw ly : Nat → Int32) (wo ma mo : Int32) (a : Nat) (b : Option Nat) (br : Nat) : sWhC T nw ly wo ma mo a b br < 5 := by
  unfold sWhC
  repeat' split
  all_goals omega
theorem sWhC_0 {T nw ly : Nat → Int32} {wo ma mo : Int32} {a : Nat} {b : Option Nat} {br : Nat} (h : sWhC T nw ly wo ma mo a b br = 0) : (nw a = T (14 + 9 * br) ∨ nw a = T (14 + 9 * br + 1)) ∧ oAt nw (nw a) b = true := by
  unfold sWhC at h
  split at h
  · assumption
  · omega
theorem p_why (h : SP σ s a1 a2 t T B P O) (hT : TW T) (hS : SV T (zAI σ a1, zAI σ a2)) {a br : Nat} {b : Option Nat} (ha : a < fn T 2) (hb : ∀ q, b = some q → q < fn T 2) (hbr : br < fn T 1) : f_X5_why s (nI a) (oI b) (nI br) σ = some (nI (sWhC T (zAI σ a1) (zAI σ a2) (zI σ 503 s) (zI σ 504 s) (zI σ 505 s) a b br), σ) := by
  have h8 := hT.2.2.1
  have h4 := hT.2.2.2.1
  have h0 := hT.2.1
  have h9 := hT.2.2.2.2.2.1 br hbr
  have n1 : ¬ T (14 + 9 * br) < nI 0 := by rw [show T (14 + 9 * br) = nI (fn T (14 + 9 * br)) from h9.1 0 (by decide)]; exact nI_pos (by omega)
  have n2 : ¬ T (14 + 9 * br + 1) < nI 0 := by rw [h9.1 1 (by decide)]; exact nI_pos (by omega)
  unfold f_X5_why f_X5_why_J44 sWhC
  simp (disch := first | exact h | omega | (simp only [Mi_sI, Mi_sL, Mi_sAI, Mi_sAL, Mi_sAIr, Mi_sALr]; exact h)) only [p500, p501, p502, pgI, pvc, pl1, pl2, ps1, ps2, t605, t606, t607, t608, tls, tlb, tlp, tlo, tvb, t600, t601, t602, t603, tb1101, tb1102, tb1103, tb1104, tb1105, tb1106, tb1107, tb1108, tb1109, tp1201, tp1202, tp1203, tp1204, tp1205, to1301, to1302, bnd2_s, bind_s, rz, lI, p_beyond h hbr, p_why46 h hT hS ha hb hbr]
  by_cases e1 : zAI σ a1 a = T (14 + 9 * br)
  · simp only [e1, if_true, true_or, true_and, n2, if_false]
    cases b with
    | none => simp [oI, mlt0, oAt]
    | some q =>
      have hq := hb q rfl
      have e3 : zAI σ a1 a = T (14 + 9 * br) := e1
      simp (disch := first | exact h | omega | (simp only [Mi_sI, Mi_sL, Mi_sAI, Mi_sAL, Mi_sAIr, Mi_sALr]; exact h)) [p500, p501, p502, pgI, pvc, pl1, pl2, ps1, ps2, t605, t606, t607, t608, tls, tlb, tlp, tlo, tvb, t600, t601, t602, t603, tb1101, tb1102, tb1103, tb1104, tb1105, tb1106, tb1107, tb1108, tb1109, tp1201, tp1202, tp1203, tp1204, tp1205, to1301, to1302, bnd2_s, bind_s, rz, lI, mI_eq, nI_add, pk_mul, nlt, nle, neq, nI_mI, mI_nI, nltm, mltn, nsub, zremN, zdivN, oI, oAt, e3]
      split <;> rfl
  · by_cases e2 : zAI σ a1 a = T (14 + 9 * br + 1)
    · have e4 : ¬ T (14 + 9 * br + 1) = T (14 + 9 * br) := by rw [← e2]; exact e1
      simp only [e2, e4, if_true, or_true, true_and, n1, if_false]
      cases b with
      | none => simp [oI, mlt0, oAt]
      | some q =>
        have hq := hb q rfl
        simp (disch := first | exact h | omega | (simp only [Mi_sI, Mi_sL, Mi_sAI, Mi_sAL, Mi_sAIr, Mi_sALr]; exact h)) [p500, p501, p502, pgI, pvc, pl1, pl2, ps1, ps2, t605, t606, t607, t608, tls, tlb, tlp, tlo, tvb, t600, t601, t602, t603, tb1101, tb1102, tb1103, tb1104, tb1105, tb1106, tb1107, tb1108, tb1109, tp1201, tp1202, tp1203, tp1204, tp1205, to1301, to1302, bnd2_s, bind_s, rz, lI, mI_eq, nI_add, pk_mul, nlt, nle, neq, nI_mI, mI_nI, nltm, mltn, nsub, zremN, zdivN, oI, oAt, e2]
        split <;> rfl
    · simp only [e1, e2, if_false, or_self, false_and, mlt0, if_true]
theorem p_canLift (h : SP σ s a1 a2 t T B P O) (hT : TW T) {a l : Nat} (ha : a < fn T 2) (hl : l < fn T 3) : f_X5_canLift s (nI a) (nI l) σ = if zAI σ a2 l = zAI σ a1 a ∧ lo T (zAI σ a2) a = none ∧ ¬ T (86 + 5 * a + 3) < T (106 + 2 * l) then some (nI 1, σ) else some (nI 0, σ) := by
  have h4 := hT.2.2.2.1
  have h5 := hT.2.2.2.2.1
  have e0 : gI 13 1301 (O l) σ = some (T (106 + 2 * l)) := to1301 h hl
  unfold f_X5_canLift f_X5_canLift_J54 f_X5_canLift_J55
  simp (disch := first | exact h | omega | (simp only [Mi_sI, Mi_sL, Mi_sAI, Mi_sAL, Mi_sAIr, Mi_sALr]; exact h)) [p500, p501, p502, pgI, pvc, pl1, pl2, ps1, ps2, t605, t606, t607, t608, tls, tlb, tlp, tlo, tvb, t600, t601, t602, t603, tb1101, tb1102, tb1103, tb1104, tb1105, tb1106, tb1107, tb1108, tb1109, tp1201, tp1202, tp1203, tp1204, tp1205, to1301, to1302, bnd2_s, bind_s, rz, lI, mI_eq, nI_add, pk_mul, nlt, nle, neq, nI_mI, mI_nI, nltm, mltn, nsub, zremN, zdivN, p_carried h hT]
  by_cases e1 : zAI σ a2 l = zAI σ a1 a
  · cases e2 : lo T (zAI σ a2) a with
    | none =>
      by_cases e3 : T (86 + 5 * a + 3) < T (106 + 2 * l)
      · simp (disch := first | exact h | omega | (simp only [Mi_sI, Mi_sL, Mi_sAI, Mi_sAL, Mi_sAIr, Mi_sALr]; exact h)) [p500, p501, p502, pgI, pvc, pl1, pl2, ps1, ps2, t605, t606, t607, t608, tls, tlb, tlp, tlo, tvb, t600, t601, t602, t603, tb1101, tb1102, tb1103, tb1104, tb1105, tb1106, tb1107, tb1108, tb1109, tp1201, tp1202, tp1203, tp1204, tp1205, to1301, to1302, bnd2_s, bind_s, rz, lI, mI_eq, nI_add, pk_mul, nlt, nle, neq, nI_mI, mI_nI, nltm, mltn, nsub, zremN, zdivN, e1, oI, e3, e0, mlt0]
      · have e4 := Int32.not_lt.mp e3
        simp (disch := first | exact h | omega | (simp only [Mi_sI, Mi_sL, Mi_sAI, Mi_sAL, Mi_sAIr, Mi_sALr]; exact h)) [p500, p501, p502, pgI, pvc, pl1, pl2, ps1, ps2, t605, t606, t607, t608, tls, tlb, tlp, tlo, tvb, t600, t601, t602, t603, tb1101, tb1102, tb1103, tb1104, tb1105, tb1106, tb1107, tb1108, tb1109, tp1201, tp1202, tp1203, tp1204, tp1205, to1301, to1302, bnd2_s, bind_s, rz, lI, mI_eq, nI_add, pk_mul, nlt, nle, neq, nI_mI, mI_nI, nltm, mltn, nsub, zremN, zdivN, e1, oI, e3, e4, e0, mlt0]
    | some k =>
      have hk := (lo_lt e2).1
      simp (disch := first | exact h | omega | (simp only [Mi_sI, Mi_sL, Mi_sAI, Mi_sAL, Mi_sAIr, Mi_sALr]; exact h)) [p500, p501, p502, pgI, pvc, pl1, pl2, ps1, ps2, t605, t606, t607, t608, tls, tlb, tlp, tlo, tvb, t600, t601, t602, t603, tb1101, tb1102, tb1103, tb1104, tb1105, tb1106, tb1107, tb1108, tb1109, tp1201, tp1202, tp1203, tp1204, tp1205, to1301, to1302, bnd2_s, bind_s, rz, lI, mI_eq, nI_add, pk_mul, nlt, nle, neq, nI_mI, mI_nI, nltm, mltn, nsub, zremN, zdivN, e1, oI]
  · simp [e1]
/-- a move of a Spot: whether it can be; where all are behind it -/
theorem p_moves (h : SP σ s a1 a2 t T B P O) (hT : TW T) (hS : SV T (zAI σ a1, zAI σ a2)) {v : Mv} (hv : MvW T v) (h3 : v.1 < 4) (h0 : v.1 = 0 → v.2.2.1 = none) (h1 : v.1 = 1 → ∃ q, v.2.2.1 = some q) :
    f_X5_moves s (nI v.1) (nI v.2.1) (oI v.2.2.1) (oI v.2.2.2) σ = match sMv T (zI σ 503 s, zI σ 504 s, zI σ 505 s) v (zAI σ a1, zAI σ a2) with
      | none => some (nI 0, σ)
      | some x => some (nI 1, CN a1 a2 σ x) := by
  obtain ⟨g1, g2, g3⟩ := hv
  have h4 := hT.2.2.2.1
  have h8 := hT.2.2.1
  have h5 := hT.2.2.2.2.1
  have hne := h.1.2.2.2.2.2.2.1
  obtain ⟨k, a, b, c⟩ := v
  have g1 : a < fn T 2 := g1
  have h3 : k < 4 := h3
  show f_X5_moves s (nI k) (nI a) (oI b) (oI c) σ = _
  by_cases k0 : k < 2
  · obtain ⟨g4, br, g5, g6⟩ := g2 k0
    have g5 : c = some br := g5
    subst g5
    have hbq : ∀ q, b = some q → q < fn T 2 := fun q hq => (g4 q hq).1
    have hw := p_why h hT hS g1 hbq g6
    have hwl := sWhC_lt T (zAI σ a1) (zAI σ a2) (zI σ 503 s) (zI σ 504 s) (zI σ 505 s) a b br
    have hsm : sMv T (zI σ 503 s, zI σ 504 s, zI σ 505 s) (k, a, b, some br) (zAI σ a1, zAI σ a2) = if 0 < sWhC T (zAI σ a1) (zAI σ a2) (zI σ 503 s) (zI σ 504 s) (zI σ 505 s) a b br then none else some (sGo T (zAI σ a1) a b br, zAI σ a2) := by
      unfold sMv
      simp only [k0, if_true]
      by_cases e : nI br = zI σ 503 s
      · rw [if_pos e, if_pos (sWhC_gone _ _ _ _ _ _ _ _ _ e)]
      · rw [if_neg e, sWhC_eq _ _ _ _ _ _ _ _ _ e]
    rw [hsm]
    have h78 : f_X5_moves s (nI k) (nI a) (oI b) (oI (some br)) σ = f_X5_moves_J78 s (nI k) (nI a) (oI b) (nI br) (oI b) (nI a) s σ := by
      have k2 : ¬ nI k = nI 2 := fun hh => by have := (nI_eq (by omega) (by omega)).mp hh; omega
      have k3 : ¬ nI k = nI 3 := fun hh => by have := (nI_eq (by omega) (by omega)).mp hh; omega
      unfold f_X5_moves
      simp only [lI, mI_eq, k2, k3, if_false]
      by_cases k1 : k = 1
      · subst k1; simp [oI]
      · have : k = 0 := by omega
        subst this
        have hb0 : b = none := h0 rfl
        subst hb0
        simp (disch := omega) [neq, oI]
    rw [h78]
    unfold f_X5_moves_J78 f_X5_moves_J130
    have hz := @sWhC_0 T (zAI σ a1) (zAI σ a2) (zI σ 503 s) (zI σ 504 s) (zI σ 505 s) a b br
    generalize sWhC T (zAI σ a1) (zAI σ a2) (zI σ 503 s) (zI σ 504 s) (zI σ 505 s) a b br = w at *
    by_cases e0 : 0 < w
    · simp (disch := first | exact h | omega | (simp only [Mi_sI, Mi_sL, Mi_sAI, Mi_sAL, Mi_sAIr, Mi_sALr]; exact h)) [p500, p501, p502, pgI, pvc, pl1, pl2, ps1, ps2, t605, t606, t607, t608, tls, tlb, tlp, tlo, tvb, t600, t601, t602, t603, tb1101, tb1102, tb1103, tb1104, tb1105, tb1106, tb1107, tb1108, tb1109, tp1201, tp1202, tp1203, tp1204, tp1205, to1301, to1302, bnd2_s, bind_s, rz, lI, mI_eq, nI_add, pk_mul, nlt, nle, neq, nI_mI, mI_nI, nltm, mltn, nsub, zremN, zdivN, hw, e0]
    · have hw0 : w = 0 := by omega
      subst hw0
      obtain ⟨z1, z2⟩ := hz rfl
      have hbe : (if zAI σ a1 a = T (14 + 9 * br) then T (14 + 9 * br + 1) else if zAI σ a1 a = T (14 + 9 * br + 1) then T (14 + 9 * br) else mI) = sOth T br (zAI σ a1 a) := by
        unfold sOth
        by_cases y1 : zAI σ a1 a = T (14 + 9 * br)
        · rw [if_pos y1, if_pos y1]
        · rw [if_neg y1, if_neg y1, if_pos (z1.resolve_left y1)]
      have hbd := p_beyond h g6 (zAI σ a1 a)
      rw [hbe] at hbd
      have hs1 := h.s1 (up (zAI σ a1) a (sOth T br (zAI σ a1 a)))
      have ua : up (zAI σ a1) a (sOth T br (zAI σ a1 a)) a = sOth T br (zAI σ a1 a) := by unfold up; rw [if_pos rfl]
      cases b with
      | none =>
        have k0' : ¬ nI k = nI 1 := fun hh => by
          have := (nI_eq (by omega) (by omega)).mp hh
          obtain ⟨q, hq⟩ := h1 this
          cases hq
        simp (disch := first | exact h | exact hs1 | omega) [p500, p501, p502, pgI, pvc, pl1, pl2, ps1, ps2, t605, t606, t607, t608, tls, tlb, tlp, tlo, tvb, t600, t601, t602, t603, tb1101, tb1102, tb1103, tb1104, tb1105, tb1106, tb1107, tb1108, tb1109, tp1201, tp1202, tp1203, tp1204, tp1205, to1301, to1302, bnd2_s, bind_s, rz, lI, mI_eq, nI_add, pk_mul, nlt, nle, neq, nI_mI, mI_nI, nltm, mltn, nsub, zremN, zdivN, hw, hbd, sAI_r, k0', sGo, CN, sAIr_self]
      | some q =>
        have hq := hbq q rfl
        have hk1 : k = 1 := by
          by_cases e : k = 1
          · exact e
          · have := h0 (show k = 0 by omega)
            cases this
        subst hk1
        have hqa : zAI σ a1 q = zAI σ a1 a := by simpa [oAt] using z2
        simp (disch := first | exact h | exact hs1 | omega) [p500, p501, p502, pgI, pvc, pl1, pl2, ps1, ps2, t605, t606, t607, t608, tls, tlb, tlp, tlo, tvb, t600, t601, t602, t603, tb1101, tb1102, tb1103, tb1104, tb1105, tb1106, tb1107, tb1108, tb1109, tp1201, tp1202, tp1203, tp1204, tp1205, to1301, to1302, bnd2_s, bind_s, rz, lI, mI_eq, nI_add, pk_mul, nlt, nle, neq, nI_mI, mI_nI, nltm, mltn, nsub, zremN, zdivN, hw, hbd, sAI_r, sGo, CN, sAIr_self, zAIr_at, ua, sAIr_sAIr, hqa]
        rw [show oI (some q) = nI q from rfl, ps1 hs1 (by omega)]
        simp [sAI_r, zAIr_at, sAIr_sAIr]
  · have kn0 : ¬ nI k = nI 0 := fun hh => by have := (nI_eq (by omega) (by omega)).mp hh; omega
    by_cases k2 : k = 2
    · subst k2
      obtain ⟨l, g5, g6⟩ := g3 rfl
      have g5 : c = some l := g5
      subst g5
      have hc := p_canLift h hT g1 g6
      have hsm : sMv T (zI σ 503 s, zI σ 504 s, zI σ 505 s) (2, a, b, some l) (zAI σ a1, zAI σ a2) = if zAI σ a2 l = zAI σ a1 a ∧ lo T (zAI σ a2) a = none ∧ ¬ T (86 + 5 * a + 3) < T (106 + 2 * l) then some (zAI σ a1, up (zAI σ a2) l (nI (6 + a))) else none := rfl
      rw [hsm]
      unfold f_X5_moves f_X5_moves_J130
      by_cases z : zAI σ a2 l = zAI σ a1 a ∧ lo T (zAI σ a2) a = none ∧ ¬ T (86 + 5 * a + 3) < T (106 + 2 * l)
      · rw [if_pos z] at hc ⊢
        have e9 : CN a1 a2 σ (zAI σ a1, up (zAI σ a2) l (nI (6 + a))) = sAIr σ a2 (up (zAI σ a2) l (nI (6 + a))) := by
          unfold CN
          have := sAIr_self (σ := sAIr σ a2 (up (zAI σ a2) l (nI (6 + a)))) a1
          rw [zAIr_ne _ hne] at this
          exact this
        simp (disch := first | exact h | omega | (simp only [Mi_sI, Mi_sL, Mi_sAI, Mi_sAL, Mi_sAIr, Mi_sALr]; exact h)) [p500, p501, p502, pgI, pvc, pl1, pl2, ps1, ps2, t605, t606, t607, t608, tls, tlb, tlp, tlo, tvb, t600, t601, t602, t603, tb1101, tb1102, tb1103, tb1104, tb1105, tb1106, tb1107, tb1108, tb1109, tp1201, tp1202, tp1203, tp1204, tp1205, to1301, to1302, bnd2_s, bind_s, rz, lI, mI_eq, nI_add, pk_mul, nlt, nle, neq, nI_mI, mI_nI, nltm, mltn, nsub, zremN, zdivN, hc, oI, sAI_r, e9]
      · rw [if_neg z] at hc ⊢
        simp (disch := first | exact h | omega | (simp only [Mi_sI, Mi_sL, Mi_sAI, Mi_sAL, Mi_sAIr, Mi_sALr]; exact h)) [p500, p501, p502, pgI, pvc, pl1, pl2, ps1, ps2, t605, t606, t607, t608, tls, tlb, tlp, tlo, tvb, t600, t601, t602, t603, tb1101, tb1102, tb1103, tb1104, tb1105, tb1106, tb1107, tb1108, tb1109, tp1201, tp1202, tp1203, tp1204, tp1205, to1301, to1302, bnd2_s, bind_s, rz, lI, mI_eq, nI_add, pk_mul, nlt, nle, neq, nI_mI, mI_nI, nltm, mltn, nsub, zremN, zdivN, hc, oI]
    · have k3 : k = 3 := by omega
      subst k3
      have hc := p_carried h hT a
      have hsm : sMv T (zI σ 503 s, zI σ 504 s, zI σ 505 s) (3, a, b, c) (zAI σ a1, zAI σ a2) = match lo T (zAI σ a2) a with
        | none => none
        | some l => some (zAI σ a1, up (zAI σ a2) l (zAI σ a1 a)) := by
        unfold sMv
        simp
        cases lo T (zAI σ a2) a <;> rfl
      rw [hsm]
      unfold f_X5_moves f_X5_moves_J130
      cases hz : lo T (zAI σ a2) a with
      | none =>
        rw [hz] at hc
        simp (disch := first | exact h | omega | (simp only [Mi_sI, Mi_sL, Mi_sAI, Mi_sAL, Mi_sAIr, Mi_sALr]; exact h)) [p500, p501, p502, pgI, pvc, pl1, pl2, ps1, ps2, t605, t606, t607, t608, tls, tlb, tlp, tlo, tvb, t600, t601, t602, t603, tb1101, tb1102, tb1103, tb1104, tb1105, tb1106, tb1107, tb1108, tb1109, tp1201, tp1202, tp1203, tp1204, tp1205, to1301, to1302, bnd2_s, bind_s, rz, lI, mI_eq, nI_add, pk_mul, nlt, nle, neq, nI_mI, mI_nI, nltm, mltn, nsub, zremN, zdivN, hc, oI, mlt0]
      | some l =>
        rw [hz] at hc
        have hl := (lo_lt hz).1
        have e9 : CN a1 a2 σ (zAI σ a1, up (zAI σ a2) l (zAI σ a1 a)) = sAIr σ a2 (up (zAI σ a2) l (zAI σ a1 a)) := by
          unfold CN
          have := sAIr_self (σ := sAIr σ a2 (up (zAI σ a2) l (zAI σ a1 a))) a1
          rw [zAIr_ne _ hne] at this
          exact this
        simp (disch := first | exact h | omega | (simp only [Mi_sI, Mi_sL, Mi_sAI, Mi_sAL, Mi_sAIr, Mi_sALr]; exact h)) [p500, p501, p502, pgI, pvc, pl1, pl2, ps1, ps2, t605, t606, t607, t608, tls, tlb, tlp, tlo, tvb, t600, t601, t602, t603, tb1101, tb1102, tb1103, tb1104, tb1105, tb1106, tb1107, tb1108, tb1109, tp1201, tp1202, tp1203, tp1204, tp1205, to1301, to1302, bnd2_s, bind_s, rz, lI, mI_eq, nI_add, pk_mul, nlt, nle, neq, nI_mI, mI_nI, nltm, mltn, nsub, zremN, zdivN, hc, oI, sAI_r, e9]
theorem p_isDone (h : SP σ s a1 a2 t T B P O) (hT : TW T) : f_X5_isDone s σ = some (bI (sDone T (zAI σ a1)), σ) := by
  have h2 := hT.1 2 (by decide)
  have n2 := hT.2.2.2.1
  have n0 := hT.2.1
  have wn : ∀ q, q < fn T 2 → (T (86 + 5 * q + 2) < nI 0 ↔ T (86 + 5 * q + 2) = mI) := by
    intro q hq
    obtain ⟨-, -, -, -, h5, -⟩ := hT.2.2.2.2.2.2.1 q hq
    rcases h5 with e | ⟨e, e2⟩
    · rw [e]; simp [mlt0]
    · rw [e]
      have c1 : ¬ nI (fn T (86 + 5 * q + 2)) < nI 0 := nI_pos (by omega)
      have c2 : ¬ nI (fn T (86 + 5 * q + 2)) = mI := fun hh => by rw [nI_mI (by omega)] at hh; exact hh
      simp [c1, c2]
  -- from the person k on
  have key : ∀ d k, k + d = fn T 2 → (∀ q, q < k → T (86 + 5 * q + 2) = mI ∨ T (86 + 5 * q + 2) = zAI σ a1 q) → loopC (fun x : (Int32 × ZT) => f_X5_isDone_L2 s x.1 x.2) (nI k, σ) = some (if sDone T (zAI σ a1) = true then .inr σ else .inl (nI 0, σ)) := by
    have hD : sDone T (zAI σ a1) = true ↔ ∀ q, q < fn T 2 → T (86 + 5 * q + 2) = mI ∨ T (86 + 5 * q + 2) = zAI σ a1 q := by
      unfold sDone
      generalize fn T 2 = n
      induction n with
      | zero => simp [foldN]
      | succ n ih =>
        rw [foldN]
        simp only [Bool.and_eq_true, ih, Bool.or_eq_true, beq_iff_eq]
        constructor
        · rintro ⟨x1, x2⟩ q hq
          by_cases e : q = n
          · subst e; exact x2
          · exact x1 q (by omega)
        · intro x
          exact ⟨fun q hq => x q (by omega), x n (by omega)⟩
    intro d
    induction d with
    | zero =>
      intro k hk hq
      have : k = fn T 2 := by omega
      subst this
      rw [if_pos (hD.mpr hq), loopC_step]
      unfold f_X5_isDone_L2
      simp (disch := first | exact h | omega | (simp only [Mi_sI, Mi_sL, Mi_sAI, Mi_sAL, Mi_sAIr, Mi_sALr]; exact h)) [p500, p501, p502, pgI, pvc, pl1, pl2, ps1, ps2, t605, t606, t607, t608, tls, tlb, tlp, tlo, tvb, t600, t601, t602, t603, tb1101, tb1102, tb1103, tb1104, tb1105, tb1106, tb1107, tb1108, tb1109, tp1201, tp1202, tp1203, tp1204, tp1205, to1301, to1302, bnd2_s, bind_s, rz, lI, mI_eq, nI_add, pk_mul, nlt, nle, neq, nI_mI, mI_nI, nltm, mltn, nsub, zremN, zdivN, h2]
    | succ d ih =>
      intro k hk hq
      have hk2 : k < fn T 2 := by omega
      rw [loopC_step]
      have w1 := wn k hk2
      have key2 : f_X5_isDone_L2 s (nI k) σ = if T (86 + 5 * k + 2) = mI ∨ T (86 + 5 * k + 2) = zAI σ a1 k then some (.inl (nI (k + 1), σ)) else some (.inr (.inl (nI 0, σ))) := by
        unfold f_X5_isDone_L2 f_X5_isDone_J51_2
        simp (disch := first | exact h | omega | (simp only [Mi_sI, Mi_sL, Mi_sAI, Mi_sAL, Mi_sAIr, Mi_sALr]; exact h)) [p500, p501, p502, pgI, pvc, pl1, pl2, ps1, ps2, t605, t606, t607, t608, tls, tlb, tlp, tlo, tvb, t600, t601, t602, t603, tb1101, tb1102, tb1103, tb1104, tb1105, tb1106, tb1107, tb1108, tb1109, tp1201, tp1202, tp1203, tp1204, tp1205, to1301, to1302, bnd2_s, bind_s, rz, lI, mI_eq, nI_add, pk_mul, nlt, nle, neq, nI_mI, mI_nI, nltm, mltn, nsub, zremN, zdivN, h2, hk2]
        by_cases e1 : T (86 + 5 * k + 2) = mI
        · rw [if_pos (w1.mpr e1)]; simp [e1]
        · rw [if_neg (fun hh => e1 (w1.mp hh))]
          simp only [e1, false_or]
      show Option.bind (f_X5_isDone_L2 s (nI k) σ) _ = _
      rw [key2]
      by_cases e : T (86 + 5 * k + 2) = mI ∨ T (86 + 5 * k + 2) = zAI σ a1 k
      · rw [if_pos e]
        refine ih (k + 1) (by omega) fun q hq2 => ?_
        by_cases eq : q = k
        · subst eq; exact e
        · exact hq q (by omega)
      · rw [if_neg e, if_neg (fun hh => e (hD.mp hh k hk2))]
        rfl
  unfold f_X5_isDone
  rw [show ((0 : Int32), σ) = (nI 0, σ) from rfl, key (fn T 2) 0 (by omega) (fun q hq => absurd hq (Nat.not_lt_zero q))]
  unfold bI
  cases sDone T (zAI σ a1) <;> rfl
end
