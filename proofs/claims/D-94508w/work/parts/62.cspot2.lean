set_option maxRecDepth 100000
/-! sums -/
def sm (f : Nat → Int32) (n : Nat) : Int32 := foldN (fun k a => a + f k) n (nI 0)
theorem sm_0 (f : Nat → Int32) : sm f 0 = nI 0 := rfl
theorem sm_s (f : Nat → Int32) (n : Nat) : sm f (n + 1) = sm f n + f n := rfl
theorem add_n0 (x : Int32) : x + nI 0 = x := Int32.add_zero x
theorem n0_add (x : Int32) : nI 0 + x = x := Int32.zero_add x
theorem foldN_sm (f : Nat → Int32) (n : Nat) (a0 : Int32) : foldN (fun k a => a + f k) n a0 = a0 + sm f n := by
  induction n with
  | zero => exact (add_n0 a0).symm
  | succ n ih =>
    rw [foldN, ih, sm_s, Int32.add_assoc]
theorem sm_congr {f g : Nat → Int32} {n : Nat} (h : ∀ k, k < n → f k = g k) : sm f n = sm g n := by
  induction n with
  | zero => rfl
  | succ n ih => rw [sm_s, sm_s, ih (fun k hk => h k (by omega)), h n (by omega)]
theorem sm_add (f g : Nat → Int32) (n : Nat) : sm (fun k => f k + g k) n = sm f n + sm g n := by
  induction n with
  | zero => exact (add_n0 _).symm
  | succ n ih =>
    rw [sm_s, sm_s, sm_s, ih]
    ac_rfl
theorem sm_zero (n : Nat) : sm (fun _ => nI 0) n = nI 0 := by
  induction n with
  | zero => rfl
  | succ n ih => rw [sm_s, ih, add_n0]
theorem sm_one (x : Int32) {q0 n : Nat} (h : q0 < n) : sm (fun q => if q = q0 then x else nI 0) n = x := by
  induction n with
  | zero => omega
  | succ n ih =>
    rw [sm_s]
    by_cases e : q0 = n
    · subst e
      rw [sm_congr (g := fun _ => nI 0) (fun k hk => by rw [if_neg (by omega)]), sm_zero, if_pos rfl, n0_add]
    · rw [ih (by omega), if_neg (fun h => e h.symm), add_n0]
theorem sm_swap (c : Nat → Nat → Int32) (n k : Nat) : sm (fun q => sm (fun l => c q l) k) n = sm (fun l => sm (fun q => c q l) n) k := by
  induction k with
  | zero => exact sm_zero n
  | succ k ih =>
    rw [sm_s, ← ih, ← sm_add]
    rfl
section
variable {T nw ly : Nat → Int32}
theorem sLw_sm (hT : TW T) (hS : SV T (nw, ly)) {q : Nat} (hq : q < fn T 2) : sLw T ly q = sm (fun l => if ly l = nI (6 + q) then T (106 + 2 * l) else nI 0) (fn T 3) := by
  have h4 := hT.2.2.2.1
  have hno : 2 = fn T 3 → ly 0 = nI (6 + q) → ly 1 = nI (6 + q) → False := by
    intro h2 e0 e1
    have f0 : fn ly 0 = 6 + q := fn_nI e0 (by omega)
    have f1 : fn ly 1 = 6 + q := fn_nI e1 (by omega)
    have := hS.2.2 0 1 (by omega) (by omega) (by decide) (f0.trans f1.symm)
    have : fn ly 0 < 6 := this
    omega
  unfold sLw lo
  rcases le2 hT.2.2.2.2.1 with e | e | e
  · rw [e]; simp [sm_0]
  · rw [e]
    simp only [sm_s, sm_0, n0_add]
    by_cases z : ly 0 = nI (6 + q) <;> simp [z]
  · rw [e]
    simp only [sm_s, sm_0, n0_add]
    by_cases z : ly 0 = nI (6 + q)
    · by_cases z1 : ly 1 = nI (6 + q)
      · exact (hno e.symm z z1).elim
      · simp [z, z1, add_n0]
    · by_cases z1 : ly 1 = nI (6 + q)
      · simp [z, z1, n0_add]
      · simp [z, z1, add_n0]
theorem sWgC_eq (hT : TW T) (hS : SV T (nw, ly)) (ma mo : Int32) {p : Nat} (hp : p < 6) : sWgC T nw ly ma mo p = sWgt T nw ly ma mo p := by
  have h0 := hT.2.1
  have h4 := hT.2.2.2.1
  unfold sWgC sWgt
  rw [foldN_sm, foldN_sm, foldN_sm, foldN_sm]
  generalize (T (8 + p) + if nI p = ma then mo else nI 0) = a0
  have e1 : sm (fun q => if nw q = nI p then sBurd T ly q else nI 0) (fn T 2) = sm (fun q => if nw q = nI p then T (86 + 5 * q) else nI 0) (fn T 2) + sm (fun q => sm (fun l => if nw q = nI p ∧ ly l = nI (6 + q) then T (106 + 2 * l) else nI 0) (fn T 3)) (fn T 2) := by
    rw [← sm_add]
    refine sm_congr fun q hq => ?_
    by_cases e : nw q = nI p
    · simp only [e, if_true, true_and]
      unfold sBurd
      rw [sLw_sm hT hS hq]
    · simp only [e, if_false, false_and]
      rw [sm_zero, add_n0]
  rw [e1, sm_swap, Int32.add_assoc, Int32.add_assoc, Int32.add_assoc]
  congr 2
  rw [← sm_add]
  refine sm_congr fun l hl => ?_
  obtain ⟨g1, g2⟩ := hS.2.1 l hl
  have g1 : ly l = nI (fn ly l) := g1
  have g2 : fn ly l < fn T 0 ∨ 6 ≤ fn ly l ∧ fn ly l < 6 + fn T 2 := g2
  unfold sPl
  rw [g1]
  generalize fn ly l = v at *
  by_cases e : v < 6
  · have c1 : nI v < nI 6 := nI_lt e (by decide)
    rw [if_pos c1, sm_congr (f := fun q => if nw q = nI p ∧ nI v = nI (6 + q) then T (106 + 2 * l) else nI 0) (g := fun _ => nI 0) (fun q hq => if_neg (fun hh => by have := (nI_eq (by omega) (by omega)).mp hh.2; omega)), sm_zero, n0_add]
  · have e2 : nI v - nI 6 = nI (v - 6) := nsub (by omega)
    have e3 : (nI (v - 6)).toNatClampNeg = v - 6 := nI_clamp (by omega)
    have c1 : ¬ nI v < nI 6 := nI_nlt (by omega) (by omega)
    have c2 : ¬ nI v = nI p := fun hh => by have := (nI_eq (by omega) (by omega)).mp hh; omega
    rw [if_neg c1, if_neg c2, add_n0, e2, e3]
    by_cases z : nw (v - 6) = nI p
    · rw [if_pos z, sm_congr (f := fun q => if nw q = nI p ∧ nI v = nI (6 + q) then T (106 + 2 * l) else nI 0) (g := fun q => if q = v - 6 then T (106 + 2 * l) else nI 0) (fun q hq => ?_), sm_one _ (by omega)]
      by_cases ez : q = v - 6
      · have : nI v = nI (6 + q) := by rw [ez]; congr 1; omega
        rw [if_pos ⟨by rw [ez]; exact z, this⟩, if_pos ez]
      · rw [if_neg (fun hh => ez (by have := (nI_eq (by omega) (by omega)).mp hh.2; omega)), if_neg ez]
    · rw [if_neg z, sm_congr (f := fun q => if nw q = nI p ∧ nI v = nI (6 + q) then T (106 + 2 * l) else nI 0) (g := fun _ => nI 0) (fun q hq => ?_), sm_zero]
      refine if_neg ?_
      rintro ⟨x1, x2⟩
      have x3 := (nI_eq (by omega) (by omega)).mp x2
      have : q = v - 6 := by omega
      rw [this] at x1
      exact z x1
end
section
variable {σ : ZT} {s a1 a2 t : Nat} {T : Nat → Int32} {B P O : Nat → Nat}
theorem p_weight (h : SP σ s a1 a2 t T B P O) (hT : TW T) (hS : SV T (zAI σ a1, zAI σ a2)) {p : Nat} (hp : p < 6) : f_X5_weight s (nI p) σ = some (sWgt T (zAI σ a1) (zAI σ a2) (zI σ 504 s) (zI σ 505 s) p, σ) := by
  rw [p_weightC h hT hS hp, sWgC_eq hT hS _ _ hp]
theorem p_hangs2 (h : SP σ s a1 a2 t T B P O) (hT : TW T) (hS : SV T (zAI σ a1, zAI σ a2)) {b : Nat} (hb : b < fn T 1) (less : Int32) : f_X5_hangs_2 s (nI b) less σ = some (if nI b = zI σ 503 s then nI 0 else bI (sHang T (zAI σ a1) (zAI σ a2) (zI σ 503 s) (zI σ 504 s) (zI σ 505 s) b less), σ) := by
  have h8 := hT.2.2.1
  have hp := hT.2.1
  have h9 := hT.2.2.2.2.2.1 b hb
  have e1 : loopC (fun x : (Int32 × Int32 × ZT) => f_X5_hangs_2_L26 s (nI b) less (B b) x.1 x.2.1 x.2.2) (nI 0, nI 0, σ) = some (sPull T (zI σ 503 s) b (b + 1), σ) := by
    refine loop_go (fun k => (sPull T (zI σ 503 s) b k, nI k, σ)) (b + 1) _ (fun k hk => ?_) ?_
    · unfold f_X5_hangs_2_L26 f_X5_hangs_2_J79_26 f_X5_hangs_2_J80_26
      simp (disch := first | exact h | omega | (simp only [Mi_sI, Mi_sL, Mi_sAI, Mi_sAL, Mi_sAIr, Mi_sALr]; exact h)) [p500, p501, p502, pgI, pvc, pl1, pl2, ps1, ps2, t605, t606, t607, t608, tls, tlb, tlp, tlo, tvb, t600, t601, t602, t603, tb1101, tb1102, tb1103, tb1104, tb1105, tb1106, tb1107, tb1108, tb1109, tp1201, tp1202, tp1203, tp1204, tp1205, to1301, to1302, bnd2_s, bind_s, rz, lI, mI_eq, nI_add, pk_mul, nlt, nle, neq, nI_mI, mI_nI, nltm, mltn, nsub, zremN, zdivN, p_pull h hT]
      rw [if_neg (by omega)]
      unfold sPull
      rw [foldN]
      by_cases e1 : nI k = zI σ 503 s
      · simp [e1]
      · by_cases e2 : T (14 + 9 * k + 2) = T (14 + 9 * b + 2)
        · simp [e1, e2]
        · simp [e1, e2]
    · unfold f_X5_hangs_2_L26
      simp (disch := first | exact h | omega | (simp only [Mi_sI, Mi_sL, Mi_sAI, Mi_sAL, Mi_sAIr, Mi_sALr]; exact h)) [p500, p501, p502, pgI, pvc, pl1, pl2, ps1, ps2, t605, t606, t607, t608, tls, tlb, tlp, tlo, tvb, t600, t601, t602, t603, tb1101, tb1102, tb1103, tb1104, tb1105, tb1106, tb1107, tb1108, tb1109, tp1201, tp1202, tp1203, tp1204, tp1205, to1301, to1302, bnd2_s, bind_s, rz, lI, mI_eq, nI_add, pk_mul, nlt, nle, neq, nI_mI, mI_nI, nltm, mltn, nsub, zremN, zdivN]
  unfold f_X5_hangs_2 f_X5_hangs_2_J109
  have hs : T (14 + 9 * b + 2) = nI (fn T (14 + 9 * b + 2)) := h9.1 2 (by decide)
  by_cases e : nI b = zI σ 503 s
  · simp (disch := first | exact h | omega | (simp only [Mi_sI, Mi_sL, Mi_sAI, Mi_sAL, Mi_sAIr, Mi_sALr]; exact h)) [p500, p501, p502, pgI, pvc, pl1, pl2, ps1, ps2, t605, t606, t607, t608, tls, tlb, tlp, tlo, tvb, t600, t601, t602, t603, tb1101, tb1102, tb1103, tb1104, tb1105, tb1106, tb1107, tb1108, tb1109, tp1201, tp1202, tp1203, tp1204, tp1205, to1301, to1302, bnd2_s, bind_s, rz, e, lI]
  · simp (disch := first | exact h | omega | (simp only [Mi_sI, Mi_sL, Mi_sAI, Mi_sAL, Mi_sAIr, Mi_sALr]; exact h)) [p500, p501, p502, pgI, pvc, pl1, pl2, ps1, ps2, t605, t606, t607, t608, tls, tlb, tlp, tlo, tvb, t600, t601, t602, t603, tb1101, tb1102, tb1103, tb1104, tb1105, tb1106, tb1107, tb1108, tb1109, tp1201, tp1202, tp1203, tp1204, tp1205, to1301, to1302, bnd2_s, bind_s, rz, lI, mI_eq, nI_add, pk_mul, nlt, nle, neq, nI_mI, mI_nI, nltm, mltn, nsub, zremN, zdivN, e1, hs, p_weight h hT hS, e]
    unfold sHang bI
    split <;> simp_all
theorem p_hangs (h : SP σ s a1 a2 t T B P O) (hT : TW T) (hS : SV T (zAI σ a1, zAI σ a2)) {b : Nat} (hb : b < fn T 1) : f_X5_hangs s (nI b) σ = some (if nI b = zI σ 503 s then nI 0 else bI (sHang T (zAI σ a1) (zAI σ a2) (zI σ 503 s) (zI σ 504 s) (zI σ 505 s) b (nI 0)), σ) := by
  unfold f_X5_hangs
  simp (disch := first | exact h | omega | (simp only [Mi_sI, Mi_sL, Mi_sAI, Mi_sAL, Mi_sAIr, Mi_sALr]; exact h)) [p500, p501, p502, pgI, pvc, pl1, pl2, ps1, ps2, t605, t606, t607, t608, tls, tlb, tlp, tlo, tvb, t600, t601, t602, t603, tb1101, tb1102, tb1103, tb1104, tb1105, tb1106, tb1107, tb1108, tb1109, tp1201, tp1202, tp1203, tp1204, tp1205, to1301, to1302, bnd2_s, bind_s, rz, lI, p_hangs2 h hT hS hb]
  unfold bI
  repeat' split
  all_goals simp_all
theorem p_beyond (h : SP σ s a1 a2 t T B P O) {b : Nat} (hb : b < fn T 1) (v : Int32) : f_X11_beyond (B b) v σ = some (if v = T (14 + 9 * b) then T (14 + 9 * b + 1) else if v = T (14 + 9 * b + 1) then T (14 + 9 * b) else mI, σ) := by
  unfold f_X11_beyond f_X11_beyond_J31
  have e : gI 11 1101 (B b) σ = some (T (14 + 9 * b)) := tb1101 h hb
  simp (disch := first | exact h | omega | (simp only [Mi_sI, Mi_sL, Mi_sAI, Mi_sAL, Mi_sAIr, Mi_sALr]; exact h)) [p500, p501, p502, pgI, pvc, pl1, pl2, ps1, ps2, t605, t606, t607, t608, tls, tlb, tlp, tlo, tvb, t600, t601, t602, t603, tb1101, tb1102, tb1103, tb1104, tb1105, tb1106, tb1107, tb1108, tb1109, tp1201, tp1202, tp1203, tp1204, tp1205, to1301, to1302, bnd2_s, bind_s, rz, e, lI, mI_eq]
  split
  · rfl
  · split <;> rfl
end
