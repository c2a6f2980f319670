set_option maxRecDepth 100000
/-! ===== states by their numbers (the model's code) ===== -/
def mix (n : Nat) (f g : Nat → Int32) : Nat → Int32 := fun i => if i < n then f i else g i
def dcL (c : Nat) : Nat → Int32 := fun l => nI (c / 10 ^ l % 10)
def dcP (n c : Nat) : Nat → Int32 := fun p => nI (c / 10 ^ n / 6 ^ p % 6)
def NL (m : Nat) (σ : ZT) (s : St) : ZT := sAIr (sAIr σ (m + 10) s.2) (m + 9) s.1
def enc (T : Nat → Int32) (s : St) : Nat := foldN (fun j c => 10 * c + fn s.2 (fn T 3 - 1 - j)) (fn T 3) (foldN (fun j c => 6 * c + fn s.1 (fn T 2 - 1 - j)) (fn T 2) 0)
def dec (T : Nat → Int32) (c : Nat) : St := (dcP (fn T 3) c, dcL c)
/-- alike as far as the town's people and loads go -/
def Agr (T : Nat → Int32) (s s' : St) : Prop := (∀ p, p < fn T 2 → s.1 p = s'.1 p) ∧ ∀ l, l < fn T 3 → s.2 l = s'.2 l
theorem foldN_congr {α : Type} {g g' : Nat → α → α} {n : Nat} {a : α} (h : ∀ k, k < n → ∀ x, g k x = g' k x) : foldN g n a = foldN g' n a := by
  induction n with
  | zero => rfl
  | succ n ih =>
    rw [foldN, foldN, ih (fun k hk x => h k (by omega) x), h n (by omega)]
section
variable {T : Nat → Int32} {s s' : St}
theorem Agr.lo' (h : Agr T s s') (p : Nat) : lo T s.2 p = lo T s'.2 p := by
  unfold lo
  by_cases h0 : 0 < fn T 3
  · rw [h.2 0 h0]
    by_cases h1 : 1 < fn T 3
    · rw [h.2 1 h1]
    · simp [h1]
  · have h1 : ¬ 1 < fn T 3 := by omega
    simp [h0, h1]
theorem Agr.burd (h : Agr T s s') (p : Nat) : sBurd T s.2 p = sBurd T s'.2 p := by
  unfold sBurd sLw
  rw [h.lo']
theorem Agr.wgt (h : Agr T s s') (ma mo : Int32) (p : Nat) : sWgt T s.1 s.2 ma mo p = sWgt T s'.1 s'.2 ma mo p := by
  unfold sWgt
  have e1 : foldN (fun q a => a + if s.1 q = nI p then sBurd T s.2 q else nI 0) (fn T 2) (T (8 + p) + if nI p = ma then mo else nI 0) = foldN (fun q a => a + if s'.1 q = nI p then sBurd T s'.2 q else nI 0) (fn T 2) (T (8 + p) + if nI p = ma then mo else nI 0) := foldN_congr (fun k hk x => by rw [h.1 k hk, h.burd])
  rw [e1]
  exact foldN_congr (fun k hk x => by rw [h.2 k hk])
theorem Agr.hang (h : Agr T s s') (wo ma mo : Int32) (b : Nat) (less : Int32) : sHang T s.1 s.2 wo ma mo b less = sHang T s'.1 s'.2 wo ma mo b less := by
  unfold sHang
  rw [h.wgt]
theorem Agr.why (h : Agr T s s') (wo ma mo : Int32) {a : Nat} {b : Option Nat} (br : Nat) (ha : a < fn T 2) (hb : ∀ q, b = some q → q < fn T 2) : sWhy T s.1 s.2 wo ma mo a b br = sWhy T s'.1 s'.2 wo ma mo a b br := by
  have e1 : oB T s.2 b = oB T s'.2 b := by
    cases b with
    | none => rfl
    | some q => exact h.burd q
  have e2 : oAt s.1 (s.1 a) b = oAt s'.1 (s'.1 a) b := by
    cases b with
    | none => rfl
    | some q =>
      show (s.1 q == s.1 a) = (s'.1 q == s'.1 a)
      rw [h.1 q (hb q rfl), h.1 a ha]
  unfold sWhy
  rw [e1, e2, h.1 a ha, h.burd, h.hang]
theorem Agr.done (h : Agr T s s') : sDone T s.1 = sDone T s'.1 := by
  unfold sDone
  exact foldN_congr (fun k hk x => by simp only [h.1 k hk])
theorem Agr.enc' (h : Agr T s s') : enc T s = enc T s' := by
  unfold enc
  have e0 : ∀ p, p < fn T 2 → fn s.1 p = fn s'.1 p := fun p hp => by unfold fn; rw [h.1 p hp]
  have e9 : ∀ p, p < fn T 3 → fn s.2 p = fn s'.2 p := fun p hp => by unfold fn; rw [h.2 p hp]
  have e1 : foldN (fun j c => 6 * c + fn s.1 (fn T 2 - 1 - j)) (fn T 2) 0 = foldN (fun j c => 6 * c + fn s'.1 (fn T 2 - 1 - j)) (fn T 2) 0 := foldN_congr (fun k hk x => by rw [e0 _ (by omega)])
  rw [e1]
  exact foldN_congr (fun k hk x => by rw [e9 _ (by omega)])
theorem Agr.symm (h : Agr T s s') : Agr T s' s := ⟨fun p hp => (h.1 p hp).symm, fun l hl => (h.2 l hl).symm⟩
theorem Agr.trans {s'' : St} (h : Agr T s s') (h2 : Agr T s' s'') : Agr T s s'' := ⟨fun p hp => (h.1 p hp).trans (h2.1 p hp), fun l hl => (h.2 l hl).trans (h2.2 l hl)⟩
theorem Agr.refl (s : St) : Agr T s s := ⟨fun _ _ => rfl, fun _ _ => rfl⟩
def AgrO (T : Nat → Int32) (o o' : Option St) : Prop := (o = none ∧ o' = none) ∨ ∃ r r', o = some r ∧ o' = some r' ∧ Agr T r r'
theorem up_agr {f f' : Nat → Int32} {n i : Nat} {v v' : Int32} (h : ∀ p, p < n → f p = f' p) (hv : v = v') : ∀ p, p < n → up f i v p = up f' i v' p := by
  intro p hp
  unfold up
  split
  · exact hv
  · exact h p hp
theorem Agr.mv (h : Agr T s s') (w : Ot) {v : Mv} (hv : MvW T v) : AgrO T (sMv T w v s) (sMv T w v s') := by
  obtain ⟨h1, h2, h3⟩ := hv
  unfold sMv
  by_cases k0 : v.1 < 2
  · obtain ⟨h4, br, h5, h6⟩ := h2 k0
    simp only [k0, if_true, h5]
    by_cases e1 : nI br = w.1
    · simp only [e1, if_true]
      exact Or.inl ⟨rfl, rfl⟩
    · simp only [e1, if_false]
      rw [h.why w.1 w.2.1 w.2.2 br h1 (fun q hq => (h4 q hq).1)]
      split
      · exact Or.inl ⟨rfl, rfl⟩
      · refine Or.inr ⟨_, _, rfl, rfl, ?_, h.2⟩
        cases hq : v.2.2.1 with
        | none => exact up_agr h.1 (by rw [h.1 _ h1])
        | some q => exact up_agr (up_agr h.1 (by rw [h.1 _ h1])) (by rw [h.1 _ (h4 q hq).1])
  · simp only [k0, if_false]
    by_cases k2 : v.1 = 2
    · obtain ⟨l, h5, h6⟩ := h3 k2
      simp only [k2, if_true, h5]
      rw [h.2 l h6, h.1 _ h1, h.lo']
      split
      · exact Or.inr ⟨_, _, rfl, rfl, h.1, up_agr h.2 rfl⟩
      · exact Or.inl ⟨rfl, rfl⟩
    · simp only [k2, if_false]
      rw [h.lo']
      cases hl : lo T s'.2 v.2.1 with
      | none => exact Or.inl ⟨rfl, rfl⟩
      | some l => exact Or.inr ⟨_, _, rfl, rfl, h.1, up_agr h.2 (by rw [h.1 _ h1])⟩
end
/-! the model's code and opens -/
section
variable {m : Nat} {σ : ZT}
theorem nI_dn (y : Nat) : nI y + mI = nI y - nI 1 := by
  rw [← mI_eq, Int32.sub_eq_add_neg]
theorem q_code (h : MInv m σ) (hT : TW (zAI σ (m + 1))) (hp : ∀ p, p < fn (zAI σ (m + 1)) 2 → zAI σ (m + 9) p = nI (fn (zAI σ (m + 9)) p)) (hl : ∀ p, p < fn (zAI σ (m + 1)) 3 → zAI σ (m + 10) p = nI (fn (zAI σ (m + 10)) p)) : f_X9_code m σ = some (nI (enc (zAI σ (m + 1)) (zAI σ (m + 9), zAI σ (m + 10))), σ) := by
  have h2 := hT.1 2 (by decide)
  have h3 := hT.1 3 (by decide)
  have n2 := hT.2.2.2.1
  have n3 := hT.2.2.2.2.1
  have e1 : loopC (fun s : (Int32 × Int32 × ZT) => f_X9_code_L11 m s.1 s.2.1 s.2.2) (nI 0, nI (fn (zAI σ (m + 1)) 2) - nI 1, σ) = some (nI (foldN (fun j c => 6 * c + fn (zAI σ (m + 9)) (fn (zAI σ (m + 1)) 2 - 1 - j)) (fn (zAI σ (m + 1)) 2) 0), σ) := by
    refine loop_go (fun j => (nI (foldN (fun j c => 6 * c + fn (zAI σ (m + 9)) (fn (zAI σ (m + 1)) 2 - 1 - j)) j 0), nI (fn (zAI σ (m + 1)) 2 - j) - nI 1, σ)) (fn (zAI σ (m + 1)) 2) _ (fun k hk => ?_) ?_
    · have e : fn (zAI σ (m + 1)) 2 - k = (fn (zAI σ (m + 1)) 2 - 1 - k) + 1 := by omega
      have e' : fn (zAI σ (m + 1)) 2 - (k + 1) = fn (zAI σ (m + 1)) 2 - 1 - k := by omega
      unfold f_X9_code_L11
      rw [foldN, e, e', nsub (by omega), Nat.add_sub_cancel]
      simp (disch := first | exact h | omega | (simp only [Mi_sI, Mi_sL, Mi_sAI, Mi_sAL, Mi_sAIr, Mi_sALr]; exact h)) [mR900, mR901, mR905, mR906, mR907, mR908, mR909, mR921, mR924, mR925, mR929, mR930, mR931, mR932, mR934, mR935, mR936, mR940, mR949, mR950, mR951, ml_at, ml_names, ml_sort, ml_trayMany, ml_trays, ml_tape, ml_text, ml_opened, ml_now, ml_lies, ml_moveKind, ml_moveOne, ml_moveTwo, ml_moveThird, ml_far, ml_come, ml_good, ml_way, ml_rounds, ml_told0, ml_endAt, ms_at, ms_names, ms_sort, ms_trayMany, ms_trays, ms_tape, ms_text, ms_opened, ms_now, ms_lies, ms_moveKind, ms_moveOne, ms_moveTwo, ms_moveThird, ms_far, ms_come, ms_good, ms_way, ms_rounds, ms_told0, ms_endAt, mgI, mgL, mpI, mpL, mpZ, mvc, bnd2_s, bind_s, rz, lI, mI_eq, nI_add, pk_mul, nlt, nle, neq, nI_mI, mI_nI, nltm, mltn, nsub, zremN, zdivN, nI_dn, hp]
    · unfold f_X9_code_L11
      rw [Nat.sub_self]
      rfl
  have e2 : ∀ c0 : Nat, loopC (fun s : (Int32 × Int32 × ZT) => f_X9_code_L42 m s.1 s.2.1 s.2.2) (nI c0, nI (fn (zAI σ (m + 1)) 3) - nI 1, σ) = some (nI (foldN (fun j c => 10 * c + fn (zAI σ (m + 10)) (fn (zAI σ (m + 1)) 3 - 1 - j)) (fn (zAI σ (m + 1)) 3) c0), σ) := by
    intro c0
    refine loop_go (fun j => (nI (foldN (fun j c => 10 * c + fn (zAI σ (m + 10)) (fn (zAI σ (m + 1)) 3 - 1 - j)) j c0), nI (fn (zAI σ (m + 1)) 3 - j) - nI 1, σ)) (fn (zAI σ (m + 1)) 3) _ (fun k hk => ?_) ?_
    · have e : fn (zAI σ (m + 1)) 3 - k = (fn (zAI σ (m + 1)) 3 - 1 - k) + 1 := by omega
      have e' : fn (zAI σ (m + 1)) 3 - (k + 1) = fn (zAI σ (m + 1)) 3 - 1 - k := by omega
      unfold f_X9_code_L42
      rw [foldN, e, e', nsub (by omega), Nat.add_sub_cancel]
      simp (disch := first | exact h | omega | (simp only [Mi_sI, Mi_sL, Mi_sAI, Mi_sAL, Mi_sAIr, Mi_sALr]; exact h)) [mR900, mR901, mR905, mR906, mR907, mR908, mR909, mR921, mR924, mR925, mR929, mR930, mR931, mR932, mR934, mR935, mR936, mR940, mR949, mR950, mR951, ml_at, ml_names, ml_sort, ml_trayMany, ml_trays, ml_tape, ml_text, ml_opened, ml_now, ml_lies, ml_moveKind, ml_moveOne, ml_moveTwo, ml_moveThird, ml_far, ml_come, ml_good, ml_way, ml_rounds, ml_told0, ml_endAt, ms_at, ms_names, ms_sort, ms_trayMany, ms_trays, ms_tape, ms_text, ms_opened, ms_now, ms_lies, ms_moveKind, ms_moveOne, ms_moveTwo, ms_moveThird, ms_far, ms_come, ms_good, ms_way, ms_rounds, ms_told0, ms_endAt, mgI, mgL, mpI, mpL, mpZ, mvc, bnd2_s, bind_s, rz, lI, mI_eq, nI_add, pk_mul, nlt, nle, neq, nI_mI, mI_nI, nltm, mltn, nsub, zremN, zdivN, nI_dn, hl]
    · unfold f_X9_code_L42
      rw [Nat.sub_self]
      rfl
  unfold f_X9_code enc
  simp (disch := first | exact h | omega | (simp only [Mi_sI, Mi_sL, Mi_sAI, Mi_sAL, Mi_sAIr, Mi_sALr]; exact h)) only [mR900, mR901, mR905, mR906, mR907, mR908, mR909, mR921, mR924, mR925, mR929, mR930, mR931, mR932, mR934, mR935, mR936, mR940, mR949, mR950, mR951, ml_at, ml_names, ml_sort, ml_trayMany, ml_trays, ml_tape, ml_text, ml_opened, ml_now, ml_lies, ml_moveKind, ml_moveOne, ml_moveTwo, ml_moveThird, ml_far, ml_come, ml_good, ml_way, ml_rounds, ml_told0, ml_endAt, ms_at, ms_names, ms_sort, ms_trayMany, ms_trays, ms_tape, ms_text, ms_opened, ms_now, ms_lies, ms_moveKind, ms_moveOne, ms_moveTwo, ms_moveThird, ms_far, ms_come, ms_good, ms_way, ms_rounds, ms_told0, ms_endAt, mgI, mgL, mpI, mpL, mpZ, mvc, bnd2_s, bind_s, rz, lI, mI_eq, nI_add, pk_mul, nlt, nle, neq, nI_mI, mI_nI, nltm, mltn, nsub, zremN, zdivN, h2, h3, e1, e2]
theorem q_opens (h : MInv m σ) (hT : TW (zAI σ (m + 1))) {c : Nat} (hc : c < 2 ^ 31) : f_X9_opens m (nI c) σ = some (NL m σ (mix (fn (zAI σ (m + 1)) 2) (dcP (fn (zAI σ (m + 1)) 3) c) (zAI σ (m + 9)), mix (fn (zAI σ (m + 1)) 3) (dcL c) (zAI σ (m + 10)))) := by
  have h2 := hT.1 2 (by decide)
  have h3 := hT.1 3 (by decide)
  have n2 := hT.2.2.2.1
  have n3 := hT.2.2.2.2.1
  have e1 : loopC (fun s : (Int32 × Int32 × ZT) => f_X9_opens_L4 m s.1 s.2.1 s.2.2) (nI c, nI 0, σ) = some (nI (c / 10 ^ (fn (zAI σ (m + 1)) 3)), sAIr σ (m + 10) (mix (fn (zAI σ (m + 1)) 3) (dcL c) (zAI σ (m + 10)))) := by
    have := loop_go (body := fun s : (Int32 × Int32 × ZT) => f_X9_opens_L4 m s.1 s.2.1 s.2.2) (fun k => (nI (c / 10 ^ k), nI k, sAIr σ (m + 10) (mix k (dcL c) (zAI σ (m + 10))))) (fn (zAI σ (m + 1)) 3) (nI (c / 10 ^ (fn (zAI σ (m + 1)) 3)), sAIr σ (m + 10) (mix (fn (zAI σ (m + 1)) 3) (dcL c) (zAI σ (m + 10)))) (fun k hk => ?_) ?_
    · have e0 : mix 0 (dcL c) (zAI σ (m + 10)) = zAI σ (m + 10) := by funext i; unfold mix; simp
      simp only [Nat.pow_zero, Nat.div_one, e0, sAIr_self] at this
      exact this
    · have hk10 : c / 10 ^ k < 2 ^ 31 := Nat.lt_of_le_of_lt (Nat.div_le_self _ _) hc
      have hm : up (mix k (dcL c) (zAI σ (m + 10))) k (nI (c / 10 ^ k % 10)) = mix (k + 1) (dcL c) (zAI σ (m + 10)) := by
        funext i
        unfold up mix dcL
        by_cases e1 : i = k
        · subst e1; simp
        · by_cases e2 : i < k
          · simp [e1, e2, show i < k + 1 by omega]
          · simp [e1, e2, show ¬ i < k + 1 by omega]
      unfold f_X9_opens_L4
      simp (disch := first | exact h | omega | (simp only [Mi_sI, Mi_sL, Mi_sAI, Mi_sAL, Mi_sAIr, Mi_sALr]; exact h)) [mR900, mR901, mR905, mR906, mR907, mR908, mR909, mR921, mR924, mR925, mR929, mR930, mR931, mR932, mR934, mR935, mR936, mR940, mR949, mR950, mR951, ml_at, ml_names, ml_sort, ml_trayMany, ml_trays, ml_tape, ml_text, ml_opened, ml_now, ml_lies, ml_moveKind, ml_moveOne, ml_moveTwo, ml_moveThird, ml_far, ml_come, ml_good, ml_way, ml_rounds, ml_told0, ml_endAt, ms_at, ms_names, ms_sort, ms_trayMany, ms_trays, ms_tape, ms_text, ms_opened, ms_now, ms_lies, ms_moveKind, ms_moveOne, ms_moveTwo, ms_moveThird, ms_far, ms_come, ms_good, ms_way, ms_rounds, ms_told0, ms_endAt, mgI, mgL, mpI, mpL, mpZ, mvc, bnd2_s, bind_s, rz, lI, mI_eq, nI_add, pk_mul, nlt, nle, neq, nI_mI, mI_nI, nltm, mltn, nsub, zremN, zdivN, h3, zAIr_ne, zAIr_at, sAI_r, sAIr_sAIr, hk, hm, Nat.pow_succ, Nat.div_div_eq_div_mul]
    · unfold f_X9_opens_L4
      simp (disch := first | exact h | omega | (simp only [Mi_sI, Mi_sL, Mi_sAI, Mi_sAL, Mi_sAIr, Mi_sALr]; exact h)) [mR900, mR901, mR905, mR906, mR907, mR908, mR909, mR921, mR924, mR925, mR929, mR930, mR931, mR932, mR934, mR935, mR936, mR940, mR949, mR950, mR951, ml_at, ml_names, ml_sort, ml_trayMany, ml_trays, ml_tape, ml_text, ml_opened, ml_now, ml_lies, ml_moveKind, ml_moveOne, ml_moveTwo, ml_moveThird, ml_far, ml_come, ml_good, ml_way, ml_rounds, ml_told0, ml_endAt, ms_at, ms_names, ms_sort, ms_trayMany, ms_trays, ms_tape, ms_text, ms_opened, ms_now, ms_lies, ms_moveKind, ms_moveOne, ms_moveTwo, ms_moveThird, ms_far, ms_come, ms_good, ms_way, ms_rounds, ms_told0, ms_endAt, mgI, mgL, mpI, mpL, mpZ, mvc, bnd2_s, bind_s, rz, lI, mI_eq, nI_add, pk_mul, nlt, nle, neq, nI_mI, mI_nI, nltm, mltn, nsub, zremN, zdivN, h3, zAIr_ne]
  have e2 : ∀ (d : Nat), d < 2 ^ 31 → ∀ τ : ZT, MInv m τ → zAI τ (m + 1) = zAI σ (m + 1) → loopC (fun s : (Int32 × Int32 × ZT) => f_X9_opens_L37 m s.1 s.2.1 s.2.2) (nI d, nI 0, τ) = some (sAIr τ (m + 9) (mix (fn (zAI σ (m + 1)) 2) (fun p => nI (d / 6 ^ p % 6)) (zAI τ (m + 9)))) := by
    intro d hd τ h hτ
    have := loop_go (body := fun s : (Int32 × Int32 × ZT) => f_X9_opens_L37 m s.1 s.2.1 s.2.2) (fun k => (nI (d / 6 ^ k), nI k, sAIr τ (m + 9) (mix k (fun p => nI (d / 6 ^ p % 6)) (zAI τ (m + 9))))) (fn (zAI σ (m + 1)) 2) (sAIr τ (m + 9) (mix (fn (zAI σ (m + 1)) 2) (fun p => nI (d / 6 ^ p % 6)) (zAI τ (m + 9)))) (fun k hk => ?_) ?_
    · have e0 : mix 0 (fun p => nI (d / 6 ^ p % 6)) (zAI τ (m + 9)) = zAI τ (m + 9) := by funext i; unfold mix; simp
      simp only [Nat.pow_zero, Nat.div_one, e0, sAIr_self] at this
      exact this
    · have hk10 : d / 6 ^ k < 2 ^ 31 := Nat.lt_of_le_of_lt (Nat.div_le_self _ _) hd
      have hm : up (mix k (fun p => nI (d / 6 ^ p % 6)) (zAI τ (m + 9))) k (nI (d / 6 ^ k % 6)) = mix (k + 1) (fun p => nI (d / 6 ^ p % 6)) (zAI τ (m + 9)) := by
        funext i
        unfold up mix
        by_cases e1 : i = k
        · subst e1; simp
        · by_cases e2 : i < k
          · simp [e1, e2, show i < k + 1 by omega]
          · simp [e1, e2, show ¬ i < k + 1 by omega]
      unfold f_X9_opens_L37
      simp (disch := first | exact h | omega | (simp only [Mi_sI, Mi_sL, Mi_sAI, Mi_sAL, Mi_sAIr, Mi_sALr]; exact h)) [mR900, mR901, mR905, mR906, mR907, mR908, mR909, mR921, mR924, mR925, mR929, mR930, mR931, mR932, mR934, mR935, mR936, mR940, mR949, mR950, mR951, ml_at, ml_names, ml_sort, ml_trayMany, ml_trays, ml_tape, ml_text, ml_opened, ml_now, ml_lies, ml_moveKind, ml_moveOne, ml_moveTwo, ml_moveThird, ml_far, ml_come, ml_good, ml_way, ml_rounds, ml_told0, ml_endAt, ms_at, ms_names, ms_sort, ms_trayMany, ms_trays, ms_tape, ms_text, ms_opened, ms_now, ms_lies, ms_moveKind, ms_moveOne, ms_moveTwo, ms_moveThird, ms_far, ms_come, ms_good, ms_way, ms_rounds, ms_told0, ms_endAt, mgI, mgL, mpI, mpL, mpZ, mvc, bnd2_s, bind_s, rz, lI, mI_eq, nI_add, pk_mul, nlt, nle, neq, nI_mI, mI_nI, nltm, mltn, nsub, zremN, zdivN, hτ, h2, zAIr_ne, zAIr_at, sAI_r, sAIr_sAIr, hk, hm, Nat.pow_succ, Nat.div_div_eq_div_mul]
    · unfold f_X9_opens_L37
      simp (disch := first | exact h | omega | (simp only [Mi_sI, Mi_sL, Mi_sAI, Mi_sAL, Mi_sAIr, Mi_sALr]; exact h)) [mR900, mR901, mR905, mR906, mR907, mR908, mR909, mR921, mR924, mR925, mR929, mR930, mR931, mR932, mR934, mR935, mR936, mR940, mR949, mR950, mR951, ml_at, ml_names, ml_sort, ml_trayMany, ml_trays, ml_tape, ml_text, ml_opened, ml_now, ml_lies, ml_moveKind, ml_moveOne, ml_moveTwo, ml_moveThird, ml_far, ml_come, ml_good, ml_way, ml_rounds, ml_told0, ml_endAt, ms_at, ms_names, ms_sort, ms_trayMany, ms_trays, ms_tape, ms_text, ms_opened, ms_now, ms_lies, ms_moveKind, ms_moveOne, ms_moveTwo, ms_moveThird, ms_far, ms_come, ms_good, ms_way, ms_rounds, ms_told0, ms_endAt, mgI, mgL, mpI, mpL, mpZ, mvc, bnd2_s, bind_s, rz, lI, mI_eq, nI_add, pk_mul, nlt, nle, neq, nI_mI, mI_nI, nltm, mltn, nsub, zremN, zdivN, hτ, h2, zAIr_ne]
  have h1 : MInv m (sAIr σ (m + 10) (mix (fn (zAI σ (m + 1)) 3) (dcL c) (zAI σ (m + 10)))) := h
  have e3 := e2 (c / 10 ^ fn (zAI σ (m + 1)) 3) (Nat.lt_of_le_of_lt (Nat.div_le_self _ _) hc) _ h1 (zAIr_ne _ (by omega))
  unfold f_X9_opens
  simp only [lI, e1, bind_s]
  rw [e3, zAIr_ne _ (by omega)]
  rfl
end
