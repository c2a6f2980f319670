set_option maxRecDepth 100000
section
variable {x m t : Nat} {σ τ : ZT} {T : Nat → Int32} {B P O : Nat → Nat}
def bsr (c : Nat → Bool) : Nat → Nat → Nat → Nat
  | 0, lo, _ => lo
  | n + 1, lo, hi => if lo < hi then (if c ((lo + hi) / 2) = true then bsr c n lo ((lo + hi) / 2) else bsr c n ((lo + hi) / 2 + 1) hi) else lo
noncomputable def cSt (T : Nat → Int32) (p w : Nat) : Bool := canM T (msM T (mI, nI p, nI w))
noncomputable def lsN (T : Nat → Int32) (p : Nat) : Option Nat := if cSt T p 999 = true then some (bsr (cSt T p) 1000 0 999) else none
theorem p_leastStone (h : SB x m σ t T B P O) (p : Nat) : ∃ τ, f_X0_leastStone x (nI p) σ = some (oI (lsN T p), τ) ∧ SQ x m σ τ ∧ zI τ 7 x = zI σ 7 x ∧ ∀ d, lsN T p = some d → d ≤ 999 := by
  have x0 : CInv x σ := h.2.2.1.1
  obtain ⟨τ1, a1, a2, a3⟩ := p_canBeM h (mI, nI p, nI 999)
  have a1 : f_X0_canBe x mI (nI p) (nI 999) σ = some (bI (cSt T p 999), τ1) := a1
  unfold lsN
  cases hc : cSt T p 999 with
  | false =>
    rw [hc] at a1
    refine ⟨τ1, ?_, a2, a3, fun d hd => by simp at hd⟩
    unfold f_X0_leastStone
    simp (disch := first | exact x0 | omega) [xv_0, lI, mI_eq, a1, bnd2_s, bI, oI]
  | true =>
    rw [hc] at a1
    have key := loop_inv (body := fun s : (Int32 × Int32 × ZT) => f_X0_leastStone_L20 x (nI p) s.1 s.2.1 s.2.2) (fun s => ∃ lo hi n, s.1 = nI lo ∧ s.2.1 = nI hi ∧ lo ≤ hi ∧ hi ≤ 999 ∧ hi - lo < n ∧ bsr (cSt T p) n lo hi = bsr (cSt T p) 1000 0 999 ∧ SQ x m σ s.2.2 ∧ zI s.2.2 7 x = zI σ 7 x) (fun s => s.2.1.toNatClampNeg - s.1.toNatClampNeg) (fun o => o.1 = nI (bsr (cSt T p) 1000 0 999) ∧ bsr (cSt T p) 1000 0 999 ≤ 999 ∧ SQ x m σ o.2 ∧ zI o.2 7 x = zI σ 7 x) (fun s hI => ?_) (nI 0, nI 999, τ1) ⟨0, 999, 1000, rfl, rfl, by omega, by omega, by omega, rfl, a2, a3⟩
    · obtain ⟨o, k1, k2, k3, k4, k5⟩ := key
      refine ⟨o.2, ?_, k4, k5, fun d hd => by simp at hd; omega⟩
      unfold f_X0_leastStone
      simp (disch := first | exact x0 | omega) [xv_0, lI, mI_eq, a1, bnd2_s, bI, n1n0, k1, oI, k2]
    · obtain ⟨a, i, u⟩ := s
      obtain ⟨lo, hi, n, e1, e2, e3, e4, e5, e6, e7, e8⟩ := hI
      have e1 : a = nI lo := e1
      have e2 : i = nI hi := e2
      have e7 : SQ x m σ u := e7
      have e8 : zI u 7 x = zI σ 7 x := e8
      subst e1
      subst e2
      have hu := h.sq e7
      have xu : CInv x u := hu.2.2.1.1
      show ∃ y, f_X0_leastStone_L20 x (nI p) (nI lo) (nI hi) u = some y ∧ _
      unfold f_X0_leastStone_L20 f_X0_leastStone_J54_20
      obtain ⟨n, rfl⟩ : ∃ n', n = n' + 1 := ⟨n - 1, by omega⟩
      by_cases hlt : lo < hi
      · obtain ⟨u1, c1, c2, c3⟩ := p_canBeM hu (mI, nI p, nI ((lo + hi) / 2))
        have c1 : f_X0_canBe x mI (nI p) (nI ((lo + hi) / 2)) u = some (bI (cSt T p ((lo + hi) / 2)), u1) := c1
        rw [bsr, if_pos hlt] at e6
        cases hcb : cSt T p ((lo + hi) / 2) with
        | false =>
          rw [hcb] at c1 e6
          refine ⟨.inl (nI ((lo + hi) / 2 + 1), nI hi, u1), ?_, ⟨(lo + hi) / 2 + 1, hi, n, rfl, rfl, by omega, e4, by omega, e6, e7.trans c2, c3.trans e8⟩, ?_⟩
          · simp (disch := first | exact xu | omega) [xv_0, bnd2_s, lI, mI_eq, nI_add, pk_mul, nlt, nle, neq, nI_mI, mI_nI, nltm, mltn, nsub, zremN, zdivN, hlt, c1, bI]
          · show (nI hi).toNatClampNeg - (nI ((lo + hi) / 2 + 1)).toNatClampNeg < (nI hi).toNatClampNeg - (nI lo).toNatClampNeg
            rw [nI_clamp (by omega), nI_clamp (by omega), nI_clamp (by omega)]
            omega
        | true =>
          rw [hcb] at c1 e6
          refine ⟨.inl (nI lo, nI ((lo + hi) / 2), u1), ?_, ⟨lo, (lo + hi) / 2, n, rfl, rfl, by omega, by omega, by omega, e6, e7.trans c2, c3.trans e8⟩, ?_⟩
          · simp (disch := first | exact xu | omega) [xv_0, bnd2_s, lI, mI_eq, nI_add, pk_mul, nlt, nle, neq, nI_mI, mI_nI, nltm, mltn, nsub, zremN, zdivN, hlt, c1, bI]
          · show (nI ((lo + hi) / 2)).toNatClampNeg - (nI lo).toNatClampNeg < (nI hi).toNatClampNeg - (nI lo).toNatClampNeg
            rw [nI_clamp (by omega), nI_clamp (by omega), nI_clamp (by omega)]
            omega
      · rw [bsr, if_neg hlt] at e6
        refine ⟨.inr (nI lo, u), ?_, by rw [← e6], by omega, e7, e8⟩
        simp (disch := first | exact xu | omega) [lI, mI_eq, nI_add, pk_mul, nlt, nle, neq, nI_mI, mI_nI, nltm, mltn, nsub, zremN, zdivN, hlt]
theorem q_canWith (h : SB x m σ t T B P O) (p w : Nat) : ∃ τ, f_X9_canWith m (nI p) (nI w) σ = some (bI (cSt T p w), τ) ∧ SQ x m σ τ ∧ zI τ 7 x = zI σ 7 x := by
  have hT := h.2.2.2.2.2.1
  have hS := h.2.2.2.2.2.2.1
  have hxm := h.1
  have m0 : MInv m σ := h.2.2.2.1
  have eT : zAI σ (m + 1) = T := h.2.2.2.2.1
  have h926 : zI σ 926 m = mI := h.2.2.2.2.2.2.2.2.2.2.1
  have h927 : zI σ 927 m = nI 0 := h.2.2.2.2.2.2.2.2.2.2.2
  have m1 : MInv m (sI σ 928 m (nI p)) := m0
  have m2 : MInv m (sI (sI σ 928 m (nI p)) 927 m (nI w)) := m0
  obtain ⟨τ1, a1, a2⟩ := q_canDoM (σ := sI (sI σ 928 m (nI p)) 927 m (nI w)) m2 hT hS eT
  have ew : mOt m (sI (sI σ 928 m (nI p)) 927 m (nI w)) = (mI, nI p, nI w) := by
    unfold mOt
    simp [r_II, h926]
  rw [ew] at a1
  have a1 : f_X9_canDo m (sI (sI σ 928 m (nI p)) 927 m (nI w)) = some (bI (cSt T p w), τ1) := a1
  have m3 : MInv m τ1 := a2.inv m2
  refine ⟨sI τ1 927 m (nI 0), ?_, ?_, ?_⟩
  · unfold f_X9_canWith
    simp (disch := first | exact m0 | exact m1 | exact m2 | exact m3 | omega) [mpI, mvc, a1, bnd2_s, lI, rz_bI]
  · obtain ⟨g1, g2, g3, g4, g5, g6, g7, g8, g9⟩ := a2
    refine ⟨g1, g2, g4, g5, g6, g7, fun f a _ => by show zR τ1 f a = _; rw [g3]; rfl, fun f a z1 z2 z3 z4 => ?_, fun a z1 z2 z3 => g9 a z3⟩
    rw [r_II]
    by_cases e : f = 927 ∧ a = m
    · rw [if_pos e, e.1, e.2, h927]
    · rw [if_neg e, g8 f a (by omega), r_II, if_neg e, r_II, if_neg (by omega)]
  · rw [r_II, if_neg (by omega), a2.i (by omega), r_II, if_neg (by omega), r_II, if_neg (by omega)]
theorem q_stoneAt (h : SB x m σ t T B P O) (p : Nat) : ∃ τ, f_X9_stoneAt m (nI p) σ = some (oI (lsN T p), τ) ∧ SQ x m σ τ ∧ zI τ 7 x = zI σ 7 x := by
  have m0 : MInv m σ := h.2.2.2.1
  obtain ⟨τ1, a1, a2, a3⟩ := q_canWith h p 999
  unfold lsN
  cases hc : cSt T p 999 with
  | false =>
    rw [hc] at a1
    refine ⟨τ1, ?_, a2, a3⟩
    unfold f_X9_stoneAt
    simp (disch := first | exact m0 | omega) [mvc, lI, mI_eq, a1, bnd2_s, bI, oI]
  | true =>
    rw [hc] at a1
    have key := loop_inv (body := fun s : (Int32 × Int32 × ZT) => f_X9_stoneAt_L19 m (nI p) s.1 s.2.1 s.2.2) (fun s => ∃ lo hi n, s.1 = nI lo ∧ s.2.1 = nI hi ∧ lo ≤ hi ∧ hi ≤ 999 ∧ hi - lo < n ∧ bsr (cSt T p) n lo hi = bsr (cSt T p) 1000 0 999 ∧ SQ x m σ s.2.2 ∧ zI s.2.2 7 x = zI σ 7 x) (fun s => s.2.1.toNatClampNeg - s.1.toNatClampNeg) (fun o => o.1 = nI (bsr (cSt T p) 1000 0 999) ∧ SQ x m σ o.2 ∧ zI o.2 7 x = zI σ 7 x) (fun s hI => ?_) (nI 0, nI 999, τ1) ⟨0, 999, 1000, rfl, rfl, by omega, by omega, by omega, rfl, a2, a3⟩
    · obtain ⟨o, k1, k2, k4, k5⟩ := key
      refine ⟨o.2, ?_, k4, k5⟩
      unfold f_X9_stoneAt
      simp (disch := first | exact m0 | omega) [mvc, lI, mI_eq, a1, bnd2_s, bI, n1n0, k1, oI, k2]
    · obtain ⟨a, i, u⟩ := s
      obtain ⟨lo, hi, n, e1, e2, e3, e4, e5, e6, e7, e8⟩ := hI
      have e1 : a = nI lo := e1
      have e2 : i = nI hi := e2
      have e7 : SQ x m σ u := e7
      have e8 : zI u 7 x = zI σ 7 x := e8
      subst e1
      subst e2
      have hu := h.sq e7
      have mu : MInv m u := hu.2.2.2.1
      show ∃ y, f_X9_stoneAt_L19 m (nI p) (nI lo) (nI hi) u = some y ∧ _
      unfold f_X9_stoneAt_L19 f_X9_stoneAt_J52_19
      obtain ⟨n, rfl⟩ : ∃ n', n = n' + 1 := ⟨n - 1, by omega⟩
      by_cases hlt : lo < hi
      · obtain ⟨u1, c1, c2, c3⟩ := q_canWith hu p ((lo + hi) / 2)
        rw [bsr, if_pos hlt] at e6
        cases hcb : cSt T p ((lo + hi) / 2) with
        | false =>
          rw [hcb] at c1 e6
          refine ⟨.inl (nI ((lo + hi) / 2 + 1), nI hi, u1), ?_, ⟨(lo + hi) / 2 + 1, hi, n, rfl, rfl, by omega, e4, by omega, e6, e7.trans c2, c3.trans e8⟩, ?_⟩
          · simp (disch := first | exact mu | omega) [mvc, bnd2_s, lI, mI_eq, nI_add, pk_mul, nlt, nle, neq, nI_mI, mI_nI, nltm, mltn, nsub, zremN, zdivN, hlt, c1, bI]
          · show (nI hi).toNatClampNeg - (nI ((lo + hi) / 2 + 1)).toNatClampNeg < (nI hi).toNatClampNeg - (nI lo).toNatClampNeg
            rw [nI_clamp (by omega), nI_clamp (by omega), nI_clamp (by omega)]
            omega
        | true =>
          rw [hcb] at c1 e6
          refine ⟨.inl (nI lo, nI ((lo + hi) / 2), u1), ?_, ⟨lo, (lo + hi) / 2, n, rfl, rfl, by omega, by omega, by omega, e6, e7.trans c2, c3.trans e8⟩, ?_⟩
          · simp (disch := first | exact mu | omega) [mvc, bnd2_s, lI, mI_eq, nI_add, pk_mul, nlt, nle, neq, nI_mI, mI_nI, nltm, mltn, nsub, zremN, zdivN, hlt, c1, bI]
          · show (nI ((lo + hi) / 2)).toNatClampNeg - (nI lo).toNatClampNeg < (nI hi).toNatClampNeg - (nI lo).toNatClampNeg
            rw [nI_clamp (by omega), nI_clamp (by omega), nI_clamp (by omega)]
            omega
      · rw [bsr, if_neg hlt] at e6
        have ehl : hi = lo := by omega
        refine ⟨.inr (nI hi, u), ?_, by rw [← e6, ehl], e7, e8⟩
        simp (disch := first | exact mu | omega) [lI, mI_eq, nI_add, pk_mul, nlt, nle, neq, nI_mI, mI_nI, nltm, mltn, nsub, zremN, zdivN, hlt]
theorem pr_stone (h : SB x m σ t T B P O) (i : Int32) : Pr x m σ (f_X0_stone x i) (f_X9_stone m i) := by
  have hT := h.2.2.2.2.2.1
  have n6 := hT.2.1
  have hxm := h.1
  by_cases hok : ok i (fn T 0) = true
  · obtain ⟨p, hp, rfl⟩ := ok_of (by omega) hok
    have x0 : CInv x σ := h.2.2.1.1
    have x1 : CInv x (sI σ 7 x (nI 0)) := x0
    have h1 := h.sq (SQ.st7 (nI 0))
    obtain ⟨τ1, a1, a2, a3, a4⟩ := p_leastStone h1 p
    have xt : CInv x τ1 := a2.cinv x1
    have hpi := p_isPlace h.2.2.1 hT (nI p)
    rw [hok] at hpi
    have c1 : f_X0_stone x (nI p) σ = some (oI (lsN T p), sI τ1 7 x (if oI (lsN T p) < nI 0 then nI 6 else nI 0)) := by
      unfold f_X0_stone f_X0_stone_J14 f_X0_stone_J37
      simp (disch := first | exact x0 | exact x1 | exact xt | omega) [xv_0, hpi, bI, bnd2_s, lI, n1n0, xp_0, xi_0, r_II, a1, p_answer xt]
    have h2 := h1.sq (a2.trans (SQ.st7 (if oI (lsN T p) < nI 0 then nI 6 else nI 0)))
    obtain ⟨τ2, b1, b2, b3⟩ := q_stoneAt h2 p
    have m1 : MInv m (sI τ1 7 x (if oI (lsN T p) < nI 0 then nI 6 else nI 0)) := h2.2.2.2.1
    have eT : zAI (sI τ1 7 x (if oI (lsN T p) < nI 0 then nI 6 else nI 0)) (m + 1) = T := h2.2.2.2.2.1
    have m2 : MInv m τ2 := b2.minv m1
    have hqi := q_isPlace m1 (by rw [eT]; exact hT) (nI p)
    rw [eT, hok] at hqi
    have est : (if oI (lsN T p) = mI then nI 6 else nI 0) = (if oI (lsN T p) < nI 0 then nI 6 else nI 0) := by
      cases hl : lsN T p with
      | none => show (if mI = mI then nI 6 else nI 0) = (if mI < nI 0 then nI 6 else nI 0); rw [if_pos rfl, if_pos mlt0]
      | some d =>
        have hd := a4 d hl
        have w1 : ¬ nI d < nI 0 := nI_pos (by omega)
        have w2 : ¬ nI d = mI := fun hh => by rw [nI_mI (by omega)] at hh; exact hh
        show (if nI d = mI then nI 6 else nI 0) = (if nI d < nI 0 then nI 6 else nI 0)
        rw [if_neg w1, if_neg w2]
    have hon := q_orNone m2 (oI (lsN T p))
    rw [est] at hon
    have hne : x ≠ m := by omega
    refine ⟨_, _, sI τ2 902 m (if oI (lsN T p) < nI 0 then nI 6 else nI 0), c1, ?_, (((SQ.st7 (nI 0)).trans (a2.trans (SQ.st7 _))).trans b2).trans (SQ.st902 _), ?_⟩
    · unfold f_X9_stone f_X9_stone_J25
      simp (disch := first | exact m1 | exact m2 | omega) only [mvc, hqi, bnd2_s, lI, bI, if_true, n1n0, if_false, b1, hon]
    · rw [r_II, if_neg (by omega), r_II, if_pos ⟨rfl, rfl⟩, b3, r_II, if_pos ⟨rfl, rfl⟩]
  · have hok : ok i (fn T 0) = false := by simpa using hok
    have x0 : CInv x σ := h.2.2.1.1
    have x1 : CInv x (sI σ 7 x (nI 1)) := x0
    have m1 : MInv m (sI σ 7 x (nI 1)) := h.2.2.2.1
    have eT : zAI (sI σ 7 x (nI 1)) (m + 1) = T := h.2.2.2.2.1
    have hck := q_isPlace m1 (by rw [eT]; exact hT) i
    rw [eT] at hck
    refine Pr.of h.1 (R := mI) (v := nI 1) (τ1 := sI σ 7 x (nI 1)) (τ2 := sI σ 7 x (nI 1)) ?_ (FX.refl _) ?_ (FR.refl _)
    · unfold f_X0_stone f_X0_stone_J14 f_X0_stone_J37
      simp (disch := first | exact x0 | exact x1 | omega) [xv_0, p_isPlace h.2.2.1 hT, hok, bI, bnd2_s, lI, n1n0, xp_0, xi_0, r_II, mI_eq, nlt]
    · unfold f_X9_stone f_X9_stone_J25 f_X9_refuse
      simp (disch := first | exact m1 | omega) [mvc, hck, hok, bI, bnd2_s, lI, mI_eq, mpI]
end
