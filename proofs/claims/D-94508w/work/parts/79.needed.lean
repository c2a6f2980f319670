set_option maxRecDepth 100000
section
variable {x m t : Nat} {σ τ : ZT} {T : Nat → Int32} {B P O : Nat → Nat}
theorem sI_self (f a : Nat) : sI σ f a (zI σ f a) = σ := by
  unfold sI
  have : z2 (zI σ) f a (zI σ f a) = zI σ := by
    funext g b
    unfold z2
    split
    · rename_i h; rw [h.1, h.2]
    · rfl
  rw [this]
  rfl
theorem FR_swap {f0 f1 a0 a1 f : Nat} {u v : Int32} (h : FR m f0 f1 a0 a1 (sI σ f m u) τ) : FR m f0 f1 a0 a1 (sI σ f m v) (sI τ f m v) := by
  obtain ⟨h1, h2, h3, h4, h5, h6, h7, h8, h9⟩ := h
  refine ⟨h1, h2, h3, h4, h5, h6, h7, fun g a hn => ?_, h9⟩
  rw [r_II, r_II]
  by_cases e : g = f ∧ a = m
  · rw [if_pos e, if_pos e]
  · rw [if_neg e, if_neg e, h8 g a hn, r_II, if_neg e]
noncomputable def Kw (T : Nat → Int32) (ms : Ms) : Nat := Classical.epsilon fun K => BE ms (enc T (nowS T)) K
noncomputable def canM (T : Nat → Int32) (ms : Ms) : Bool := ((bfsK ms (b0 (enc T (nowS T))) (Kw T ms)).2.find? (dn T)).isSome
theorem Kw_ok (hT : TW T) (hS : SV T (nowS T)) (w : Ot) : BE (msM T w) (enc T (nowS T)) (Kw T (msM T w)) := Classical.epsilon_spec (BE.ex (Cl_M hT w) (VM_enc hT hS))
theorem can_M (w : Ot) : can T w (Kw T (msM T w)) = canM T (msM T w) := rfl
theorem p_canBeM (h : SB x m σ t T B P O) (w : Ot) : ∃ τ, f_X0_canBe x w.1 w.2.1 w.2.2 σ = some (bI (canM T (msM T w)), τ) ∧ SQ x m σ τ ∧ zI τ 7 x = zI σ 7 x := p_canBe h w (Kw_ok h.2.2.2.2.2.1 h.2.2.2.2.2.2.1 w)
theorem q_canDoM (h : MInv m σ) (hT : TW T) (hS : SV T (nowS T)) (e : zAI σ (m + 1) = T) : ∃ τ, f_X9_canDo m σ = some (bI (canM T (msM T (mOt m σ))), τ) ∧ FR m 933 938 9 17 σ τ := by
  obtain ⟨τ, a1, a2⟩ := q_canDo h (by rw [e]; exact hT) (by rw [e]; exact hS) (K := Kw T (msM T (mOt m σ))) (by rw [e]; exact Kw_ok hT hS _)
  rw [e, can_M] at a1
  exact ⟨τ, a1, a2⟩
/-- by a bridge that is not there -/
def fNd (c : Nat → Bool) (b : Nat) (a : Int32) : Int32 := a ||| (if c b = true then nI 0 else nI 1 <<< (nI b &&& nI 31))
theorem p_needed (h : SB x m σ t T B P O) : ∃ τ R, f_X0_needed x σ = some (R, τ) ∧ SQ x m σ τ ∧ ((canM T (msM T (mI, mI, nI 0)) = false ∧ R = mI ∧ zI τ 7 x = nI 6) ∨ (canM T (msM T (mI, mI, nI 0)) = true ∧ R = foldN (fNd fun b => canM T (msM T (nI b, mI, nI 0))) (fn T 1) (nI 0) ∧ zI τ 7 x = nI 0)) := by
  have hT := h.2.2.2.2.2.1
  have n8 := hT.2.2.1
  have h1T := hT.1 1 (by decide)
  have x0 : CInv x σ := h.2.2.1.1
  obtain ⟨τ1, a1, a2, a3⟩ := p_canBeM h (mI, mI, nI 0)
  have a1 : f_X0_canBe x mI mI (nI 0) σ = some (bI (canM T (msM T (mI, mI, nI 0))), τ1) := a1
  have x1 : CInv x τ1 := a2.cinv x0
  cases hc : canM T (msM T (mI, mI, nI 0)) with
  | false =>
    rw [hc] at a1
    have x2 : CInv x (sI τ1 7 x (nI 6)) := x1
    refine ⟨sI τ1 7 x (nI 6), mI, ?_, a2.trans (SQ.st7 _), Or.inl ⟨rfl, rfl, by rw [r_II, if_pos ⟨rfl, rfl⟩]⟩⟩
    unfold f_X0_needed f_X0_needed_J17
    simp (disch := first | exact x0 | exact x1 | exact x2 | omega) [xv_0, xp_0, xi_0, lI, mI_eq, a1, bnd2_s, bI, r_II, nlt]
  | true =>
    rw [hc] at a1
    have x2 : CInv x (sI τ1 7 x (nI 0)) := x1
    have key := loop_inv (body := fun s : (Int32 × Int32 × ZT) => f_X0_needed_L33 x s.1 s.2.1 s.2.2) (fun s => ∃ b, b ≤ fn T 1 ∧ s.2.1 = nI b ∧ s.1 = foldN (fNd fun b => canM T (msM T (nI b, mI, nI 0))) b (nI 0) ∧ SQ x m σ s.2.2 ∧ zI s.2.2 7 x = nI 0) (fun s => 9 - s.2.1.toNatClampNeg) (fun o => o.1 = foldN (fNd fun b => canM T (msM T (nI b, mI, nI 0))) (fn T 1) (nI 0) ∧ SQ x m σ o.2 ∧ zI o.2 7 x = nI 0) (fun s hI => ?_) (nI 0, nI 0, sI τ1 7 x (nI 0)) ⟨0, Nat.zero_le _, rfl, rfl, a2.trans (SQ.st7 _), by rw [r_II, if_pos ⟨rfl, rfl⟩]⟩
    · obtain ⟨o, k1, k2, k3, k4⟩ := key
      refine ⟨o.2, o.1, ?_, k3, Or.inr ⟨rfl, k2, k4⟩⟩
      unfold f_X0_needed f_X0_needed_J17
      simp (disch := first | exact x0 | exact x1 | exact x2 | omega) [xv_0, xp_0, xi_0, lI, mI_eq, a1, bnd2_s, bI, r_II, n1n0, k1]
    · obtain ⟨a, i, u⟩ := s
      obtain ⟨b, hb, e1, e2, e3, e4⟩ := hI
      have e1 : i = nI b := e1
      have e2 : a = foldN (fNd fun b => canM T (msM T (nI b, mI, nI 0))) b (nI 0) := e2
      subst e1
      have e3 : SQ x m σ u := e3
      have e4 : zI u 7 x = nI 0 := e4
      have hu := h.sq e3
      have xu : CInv x u := hu.2.2.1.1
      show ∃ y, f_X0_needed_L33 x a (nI b) u = some y ∧ _
      unfold f_X0_needed_L33 f_X0_needed_J62_33
      by_cases hlt : b < fn T 1
      · obtain ⟨u1, c1, c2, c3⟩ := p_canBeM hu (nI b, mI, nI 0)
        have c1 : f_X0_canBe x (nI b) mI (nI 0) u = some (bI (canM T (msM T (nI b, mI, nI 0))), u1) := c1
        refine ⟨.inl (foldN (fNd fun b => canM T (msM T (nI b, mI, nI 0))) (b + 1) (nI 0), nI (b + 1), u1), ?_, ⟨b + 1, hlt, rfl, rfl, e3.trans c2, c3.trans e4⟩, ?_⟩
        · rw [foldN, ← e2]
          unfold fNd
          cases hcb : canM T (msM T (nI b, mI, nI 0)) with
          | false =>
            rw [hcb] at c1
            simp (disch := first | exact xu | omega) [xv_0, p_town hu.2.2.1, bnd2_s, ti1 hu.2.2.1.2.2.1, h1T, lI, mI_eq, nI_add, pk_mul, nlt, nle, neq, nI_mI, mI_nI, nltm, mltn, nsub, zremN, zdivN, hlt, c1, bI]
            simp [hcb]
          | true =>
            rw [hcb] at c1
            simp (disch := first | exact xu | omega) [xv_0, p_town hu.2.2.1, bnd2_s, ti1 hu.2.2.1.2.2.1, h1T, lI, mI_eq, nI_add, pk_mul, nlt, nle, neq, nI_mI, mI_nI, nltm, mltn, nsub, zremN, zdivN, hlt, c1, bI]
            simp [hcb]
        · show 9 - (nI (b + 1)).toNatClampNeg < 9 - (nI b).toNatClampNeg
          rw [nI_clamp (by omega), nI_clamp (by omega)]
          omega
      · have hbe : b = fn T 1 := by omega
        refine ⟨.inr (a, u), ?_, by rw [e2, hbe], e3, e4⟩
        simp (disch := first | exact xu | omega) [xv_0, p_town hu.2.2.1, bnd2_s, ti1 hu.2.2.1.2.2.1, h1T, lI, mI_eq, nI_add, pk_mul, nlt, nle, neq, nI_mI, mI_nI, nltm, mltn, nsub, zremN, zdivN, hlt]
theorem OtE.can {w w' : Ot} (h : OtE w w') (hT : TW T) : canM T (msM T w) = canM T (msM T w') := by rw [h.ms hT]
theorem q_needed (h : SB x m σ t T B P O) : ∃ τ R, (canM T (msM T (mI, mI, nI 0)) = false → f_X9_needed m σ = some (mI, sI τ 902 m (nI 6)) ∧ SQ x m σ τ ∧ zI τ 7 x = zI σ 7 x) ∧ (canM T (msM T (mI, mI, nI 0)) = true → f_X9_needed m σ = some (R, sI τ 902 m (nI 0)) ∧ R = foldN (fNd fun b => canM T (msM T (nI b, mI, nI 0))) (fn T 1) (nI 0) ∧ SQ x m σ τ ∧ zI τ 7 x = zI σ 7 x) := by
  have hT := h.2.2.2.2.2.1
  have hS := h.2.2.2.2.2.2.1
  have n8 := hT.2.2.1
  have hxm := h.1
  have h1T := hT.1 1 (by decide)
  have m0 : MInv m σ := h.2.2.2.1
  have eT : zAI σ (m + 1) = T := h.2.2.2.2.1
  have h926 : zI σ 926 m = mI := h.2.2.2.2.2.2.2.2.2.2.1
  have h927 : zI σ 927 m = nI 0 := h.2.2.2.2.2.2.2.2.2.2.2
  have eo : ∀ (u : ZT) (b : Int32), zI u 926 m = b → zI u 927 m = nI 0 → canM T (msM T (mOt m u)) = canM T (msM T (b, mI, nI 0)) := by
    intro u b e1 e2
    refine OtE.can ⟨e1, fun p hp => ?_⟩ hT
    show (if nI p = zI u 928 m then zI u 927 m else nI 0) = (if nI p = mI then nI 0 else nI 0)
    rw [e2]
    split <;> split <;> rfl
  obtain ⟨τ1, a1, a2⟩ := q_canDoM m0 hT hS eT
  rw [eo σ mI h926 h927] at a1
  have m1 : MInv m τ1 := a2.inv m0
  cases hc : canM T (msM T (mI, mI, nI 0)) with
  | false =>
    rw [hc] at a1
    refine ⟨τ1, mI, fun _ => ⟨?_, SQ.ofFR a2, a2.i (by omega)⟩, fun hh => by cases hh⟩
    unfold f_X9_needed f_X9_refuse
    simp (disch := first | exact m0 | exact m1 | omega) [mvc, mpI, lI, mI_eq, a1, bnd2_s, bI]
  | true =>
    rw [hc] at a1
    have b2 : FR m 933 938 9 17 (sI σ 926 m mI) τ1 := by
      rw [← h926, sI_self]; exact a2
    have key := loop_inv (body := fun s : (Int32 × Int32 × ZT) => f_X9_needed_L18 m s.1 s.2.1 s.2.2) (fun s => ∃ b v, b ≤ fn T 1 ∧ s.2.1 = nI b ∧ s.1 = foldN (fNd fun b => canM T (msM T (nI b, mI, nI 0))) b (nI 0) ∧ FR m 933 938 9 17 (sI σ 926 m v) s.2.2) (fun s => 9 - s.2.1.toNatClampNeg) (fun o => o.1 = foldN (fNd fun b => canM T (msM T (nI b, mI, nI 0))) (fn T 1) (nI 0) ∧ ∃ v, FR m 933 938 9 17 (sI σ 926 m v) o.2) (fun s hI => ?_) (nI 0, nI 0, τ1) ⟨0, mI, Nat.zero_le _, rfl, rfl, b2⟩
    · obtain ⟨o, k1, k2, v, k3⟩ := key
      have mo : MInv m o.2 := k3.inv (show MInv m (sI σ 926 m v) from m0)
      have mo1 : MInv m (sI o.2 926 m mI) := mo
      have k4 : FR m 933 938 9 17 σ (sI o.2 926 m mI) := by
        have := FR_swap (v := mI) k3
        rw [← h926, sI_self] at this
        rw [← h926]
        exact this
      refine ⟨sI o.2 926 m mI, o.1, fun hh => (by cases hh), fun _ => ⟨?_, k2, SQ.ofFR k4, k4.i (by omega)⟩⟩
      unfold f_X9_needed f_X9_gives
      simp (disch := first | exact m0 | exact m1 | exact mo | exact mo1 | omega) [mvc, mpI, lI, mI_eq, a1, bnd2_s, bI, n1n0, k1]
    · obtain ⟨a, i, u⟩ := s
      obtain ⟨b, v, hb, e1, e2, e3⟩ := hI
      have e1 : i = nI b := e1
      have e2 : a = foldN (fNd fun b => canM T (msM T (nI b, mI, nI 0))) b (nI 0) := e2
      subst e1
      have e3 : FR m 933 938 9 17 (sI σ 926 m v) u := e3
      have mu : MInv m u := e3.inv (show MInv m (sI σ 926 m v) from m0)
      have eu : zAI u (m + 1) = T := by rw [e3.ai (by omega)]; exact eT
      have mu1 : MInv m (sI u 926 m (nI b)) := mu
      have e5 := FR_swap (v := nI b) e3
      show ∃ y, f_X9_needed_L18 m a (nI b) u = some y ∧ _
      unfold f_X9_needed_L18 f_X9_needed_J48_18
      by_cases hlt : b < fn T 1
      · obtain ⟨u1, c1, c2⟩ := q_canDoM (σ := sI u 926 m (nI b)) mu1 hT hS eu
        rw [eo (sI u 926 m (nI b)) (nI b) (by rw [r_II, if_pos ⟨rfl, rfl⟩]) (by rw [r_II, if_neg (by omega), e3.i (by omega), r_II, if_neg (by omega)]; exact h927)] at c1
        refine ⟨.inl (foldN (fNd fun b => canM T (msM T (nI b, mI, nI 0))) (b + 1) (nI 0), nI (b + 1), u1), ?_, ⟨b + 1, nI b, hlt, rfl, rfl, e5.trans c2⟩, ?_⟩
        · rw [foldN, ← e2]
          unfold fNd
          cases hcb : canM T (msM T (nI b, mI, nI 0)) with
          | false =>
            rw [hcb] at c1
            simp (disch := first | exact mu | exact mu1 | omega) [mR900, mR901, mR905, mR906, mR907, mR908, mR909, mR921, mR924, mR925, mR929, mR930, mR931, mR932, mR934, mR935, mR936, mR940, mR949, mR950, mR951, ml_at, ml_names, ml_sort, ml_trayMany, ml_trays, ml_tape, ml_text, ml_opened, ml_now, ml_lies, ml_moveKind, ml_moveOne, ml_moveTwo, ml_moveThird, ml_far, ml_come, ml_good, ml_way, ml_rounds, ml_told0, ml_endAt, ms_at, ms_names, ms_sort, ms_trayMany, ms_trays, ms_tape, ms_text, ms_opened, ms_now, ms_lies, ms_moveKind, ms_moveOne, ms_moveTwo, ms_moveThird, ms_far, ms_come, ms_good, ms_way, ms_rounds, ms_told0, ms_endAt, mgI, mgL, mpI, mpL, mpZ, mvc, bnd2_s, bind_s, rz, lI, mI_eq, nI_add, pk_mul, nlt, nle, neq, nI_mI, mI_nI, nltm, mltn, nsub, zremN, zdivN, eu, h1T, hlt, c1, bI]
            simp [hcb]
          | true =>
            rw [hcb] at c1
            simp (disch := first | exact mu | exact mu1 | omega) [mR900, mR901, mR905, mR906, mR907, mR908, mR909, mR921, mR924, mR925, mR929, mR930, mR931, mR932, mR934, mR935, mR936, mR940, mR949, mR950, mR951, ml_at, ml_names, ml_sort, ml_trayMany, ml_trays, ml_tape, ml_text, ml_opened, ml_now, ml_lies, ml_moveKind, ml_moveOne, ml_moveTwo, ml_moveThird, ml_far, ml_come, ml_good, ml_way, ml_rounds, ml_told0, ml_endAt, ms_at, ms_names, ms_sort, ms_trayMany, ms_trays, ms_tape, ms_text, ms_opened, ms_now, ms_lies, ms_moveKind, ms_moveOne, ms_moveTwo, ms_moveThird, ms_far, ms_come, ms_good, ms_way, ms_rounds, ms_told0, ms_endAt, mgI, mgL, mpI, mpL, mpZ, mvc, bnd2_s, bind_s, rz, lI, mI_eq, nI_add, pk_mul, nlt, nle, neq, nI_mI, mI_nI, nltm, mltn, nsub, zremN, zdivN, eu, h1T, hlt, c1, bI]
            simp [hcb]
        · show 9 - (nI (b + 1)).toNatClampNeg < 9 - (nI b).toNatClampNeg
          rw [nI_clamp (by omega), nI_clamp (by omega)]
          omega
      · have hbe : b = fn T 1 := by omega
        refine ⟨.inr (a, u), ?_, by rw [e2, hbe], v, e3⟩
        simp (disch := first | exact mu | omega) [mR900, mR901, mR905, mR906, mR907, mR908, mR909, mR921, mR924, mR925, mR929, mR930, mR931, mR932, mR934, mR935, mR936, mR940, mR949, mR950, mR951, ml_at, ml_names, ml_sort, ml_trayMany, ml_trays, ml_tape, ml_text, ml_opened, ml_now, ml_lies, ml_moveKind, ml_moveOne, ml_moveTwo, ml_moveThird, ml_far, ml_come, ml_good, ml_way, ml_rounds, ml_told0, ml_endAt, ms_at, ms_names, ms_sort, ms_trayMany, ms_trays, ms_tape, ms_text, ms_opened, ms_now, ms_lies, ms_moveKind, ms_moveOne, ms_moveTwo, ms_moveThird, ms_far, ms_come, ms_good, ms_way, ms_rounds, ms_told0, ms_endAt, mgI, mgL, mpI, mpL, mpZ, mvc, bnd2_s, bind_s, rz, lI, mI_eq, nI_add, pk_mul, nlt, nle, neq, nI_mI, mI_nI, nltm, mltn, nsub, zremN, zdivN, eu, h1T, hlt]
theorem pr_needed (h : SB x m σ t T B P O) : Pr x m σ (f_X0_needed x) (f_X9_needed m) := by
  obtain ⟨τ1, R, a1, a2, a3⟩ := p_needed h
  obtain ⟨τ2, R2, b1, b2⟩ := q_needed (h.sq a2)
  have hne : x ≠ m := by have := h.1; omega
  rcases a3 with ⟨c1, c2, c3⟩ | ⟨c1, c2, c3⟩
  · obtain ⟨d1, d2, d3⟩ := b1 c1
    rw [c2] at a1
    refine ⟨mI, τ1, sI τ2 902 m (nI 6), a1, d1, (a2.trans d2).trans (SQ.st902 _), ?_⟩
    rw [r_II, if_neg (by omega), r_II, if_pos ⟨rfl, rfl⟩, d3, c3]
  · obtain ⟨d1, d4, d2, d3⟩ := b2 c1
    rw [c2, ← d4] at a1
    refine ⟨R2, τ1, sI τ2 902 m (nI 0), a1, d1, (a2.trans d2).trans (SQ.st902 _), ?_⟩
    rw [r_II, if_neg (by omega), r_II, if_pos ⟨rfl, rfl⟩, d3, c3]
end
