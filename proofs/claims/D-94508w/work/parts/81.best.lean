set_option maxRecDepth 100000
section
variable {x m t : Nat} {σ τ : ZT} {T : Nat → Int32} {B P O : Nat → Nat}
noncomputable def bsS (T : Nat → Int32) (p : Nat) (o : Option (Nat × Nat)) : Option (Nat × Nat) := match lsN T p with
  | none => o
  | some v => match o with
    | none => some (p, v)
    | some q => if v < q.2 then some (p, v) else some q
def bsA (o : Option (Nat × Nat)) : Int32 := match o with
  | none => mI
  | some q => nI q.1
def bsL (o : Option (Nat × Nat)) : Int32 := match o with
  | none => nI 0
  | some q => nI q.2
def bsB (o : Option (Nat × Nat)) : Prop := ∀ q, o = some q → q.1 < 6 ∧ q.2 ≤ 999
theorem bsB.step {o : Option (Nat × Nat)} (h : bsB o) {p : Nat} (hp : p < 6) (hl : ∀ d, lsN T p = some d → d ≤ 999) : bsB (bsS T p o) := by
  unfold bsS
  cases hv : lsN T p with
  | none => exact h
  | some v =>
    cases o with
    | none => intro q hq; cases hq; exact ⟨hp, hl v hv⟩
    | some r =>
      intro q hq
      by_cases e : v < r.2
      · simp only [e, if_true] at hq
        cases hq; exact ⟨hp, hl v hv⟩
      · simp only [e, if_false] at hq
        cases hq; exact h r rfl
theorem p_best (h : SB x m σ t T B P O) (c1 : Int32) : ∃ τ o, loopC (fun s : (Int32 × Int32 × Int32 × ZT) => f_X0_bestStone_L35 x c1 s.1 s.2.1 s.2.2.1 s.2.2.2) (mI, nI 0, nI 0, σ) = some (bsA o, bsL o, τ) ∧ o = foldN (bsS T) (fn T 0) none ∧ bsB o ∧ SQ x m σ τ ∧ zI τ 7 x = zI σ 7 x := by
  have hT := h.2.2.2.2.2.1
  have n6 := hT.2.1
  have h0T := hT.1 0 (by decide)
  have key := loop_inv (body := fun s : (Int32 × Int32 × Int32 × ZT) => f_X0_bestStone_L35 x c1 s.1 s.2.1 s.2.2.1 s.2.2.2) (fun s => ∃ p, p ≤ fn T 0 ∧ s.2.2.1 = nI p ∧ s.1 = bsA (foldN (bsS T) p none) ∧ s.2.1 = bsL (foldN (bsS T) p none) ∧ bsB (foldN (bsS T) p none) ∧ SQ x m σ s.2.2.2 ∧ zI s.2.2.2 7 x = zI σ 7 x) (fun s => 9 - s.2.2.1.toNatClampNeg) (fun r => r.1 = bsA (foldN (bsS T) (fn T 0) none) ∧ r.2.1 = bsL (foldN (bsS T) (fn T 0) none) ∧ bsB (foldN (bsS T) (fn T 0) none) ∧ SQ x m σ r.2.2 ∧ zI r.2.2 7 x = zI σ 7 x) (fun s hI => ?_) (mI, nI 0, nI 0, σ) ⟨0, Nat.zero_le _, rfl, rfl, rfl, fun q hq => (by cases hq), SQ.refl _, rfl⟩
  · obtain ⟨⟨r1, r2, r3⟩, k1, k2, k3, k4, k5, k6⟩ := key
    have k2 : r1 = _ := k2
    have k3 : r2 = _ := k3
    subst k2
    subst k3
    exact ⟨r3, _, k1, rfl, k4, k5, k6⟩
  · obtain ⟨a, l, i, u⟩ := s
    obtain ⟨p, hp, e1, e2, e3, e4, e5, e6⟩ := hI
    have e1 : i = nI p := e1
    have e2 : a = bsA (foldN (bsS T) p none) := e2
    have e3 : l = bsL (foldN (bsS T) p none) := e3
    have e5 : SQ x m σ u := e5
    have e6 : zI u 7 x = zI σ 7 x := e6
    subst e1
    subst e2
    subst e3
    have hu := h.sq e5
    have xu : CInv x u := hu.2.2.1.1
    show ∃ y, f_X0_bestStone_L35 x c1 _ _ (nI p) u = some y ∧ _
    unfold f_X0_bestStone_L35 f_X0_bestStone_J73_35 f_X0_bestStone_J79_35
    by_cases hlt : p < fn T 0
    · obtain ⟨u1, c2, c3, c4, c5⟩ := p_leastStone hu p
      refine ⟨.inl (bsA (foldN (bsS T) (p + 1) none), bsL (foldN (bsS T) (p + 1) none), nI (p + 1), u1), ?_, ⟨p + 1, hlt, rfl, rfl, rfl, e4.step (by omega) c5, e5.trans c3, c4.trans e6⟩, ?_⟩
      · rw [foldN]
        generalize foldN (bsS T) p none = o at *
        unfold bsS
        cases hv : lsN T p with
        | none =>
          rw [hv] at c2
          simp (disch := first | exact xu | omega) [xv_0, p_town hu.2.2.1, bnd2_s, ti0 hu.2.2.1.2.2.1, h0T, lI, mI_eq, nI_add, pk_mul, nlt, nle, neq, nI_mI, mI_nI, nltm, mltn, nsub, zremN, zdivN, hlt, c2, oI, mlt0]
        | some v =>
          rw [hv] at c2
          have hv9 := c5 v hv
          cases o with
          | none => simp (disch := first | exact xu | omega) [xv_0, p_town hu.2.2.1, bnd2_s, ti0 hu.2.2.1.2.2.1, h0T, lI, mI_eq, nI_add, pk_mul, nlt, nle, neq, nI_mI, mI_nI, nltm, mltn, nsub, zremN, zdivN, hlt, c2, oI, mlt0, bsA, bsL]
          | some q =>
            have hq := e4 q rfl
            by_cases e : v < q.2
            · simp (disch := first | exact xu | omega) [xv_0, p_town hu.2.2.1, bnd2_s, ti0 hu.2.2.1.2.2.1, h0T, lI, mI_eq, nI_add, pk_mul, nlt, nle, neq, nI_mI, mI_nI, nltm, mltn, nsub, zremN, zdivN, hlt, c2, oI, mlt0, bsA, bsL, e]
            · simp (disch := first | exact xu | omega) [xv_0, p_town hu.2.2.1, bnd2_s, ti0 hu.2.2.1.2.2.1, h0T, lI, mI_eq, nI_add, pk_mul, nlt, nle, neq, nI_mI, mI_nI, nltm, mltn, nsub, zremN, zdivN, hlt, c2, oI, mlt0, bsA, bsL, e]
      · show 9 - (nI (p + 1)).toNatClampNeg < 9 - (nI p).toNatClampNeg
        rw [nI_clamp (by omega), nI_clamp (by omega)]
        omega
    · have hpe : p = fn T 0 := by omega
      refine ⟨.inr (bsA (foldN (bsS T) p none), bsL (foldN (bsS T) p none), u), ?_, by rw [hpe], by rw [hpe], by rw [← hpe]; exact e4, e5, e6⟩
      simp (disch := first | exact xu | omega) [xv_0, p_town hu.2.2.1, bnd2_s, ti0 hu.2.2.1.2.2.1, h0T, lI, mI_eq, nI_add, pk_mul, nlt, nle, neq, nI_mI, mI_nI, nltm, mltn, nsub, zremN, zdivN, hlt]
theorem q_best (h : SB x m σ t T B P O) (hl9 : ∀ p d, lsN T p = some d → d ≤ 999) (c1 : Int32) : ∃ τ, loopC (fun s : (Int32 × Int32 × Int32 × ZT) => f_X9_bestStone_L22 m c1 s.1 s.2.1 s.2.2.1 s.2.2.2) (mI, nI 0, nI 0, σ) = some (bsA (foldN (bsS T) (fn T 0) none), bsL (foldN (bsS T) (fn T 0) none), τ) ∧ SQ x m σ τ ∧ zI τ 7 x = zI σ 7 x := by
  have hT := h.2.2.2.2.2.1
  have n6 := hT.2.1
  have h0T := hT.1 0 (by decide)
  have key := loop_inv (body := fun s : (Int32 × Int32 × Int32 × ZT) => f_X9_bestStone_L22 m c1 s.1 s.2.1 s.2.2.1 s.2.2.2) (fun s => ∃ p, p ≤ fn T 0 ∧ s.2.2.1 = nI p ∧ s.1 = bsA (foldN (bsS T) p none) ∧ s.2.1 = bsL (foldN (bsS T) p none) ∧ bsB (foldN (bsS T) p none) ∧ SQ x m σ s.2.2.2 ∧ zI s.2.2.2 7 x = zI σ 7 x) (fun s => 9 - s.2.2.1.toNatClampNeg) (fun r => r.1 = bsA (foldN (bsS T) (fn T 0) none) ∧ r.2.1 = bsL (foldN (bsS T) (fn T 0) none) ∧ SQ x m σ r.2.2 ∧ zI r.2.2 7 x = zI σ 7 x) (fun s hI => ?_) (mI, nI 0, nI 0, σ) ⟨0, Nat.zero_le _, rfl, rfl, rfl, fun q hq => (by cases hq), SQ.refl _, rfl⟩
  · obtain ⟨⟨r1, r2, r3⟩, k1, k2, k3, k5, k6⟩ := key
    have k2 : r1 = _ := k2
    have k3 : r2 = _ := k3
    subst k2
    subst k3
    exact ⟨r3, k1, k5, k6⟩
  · obtain ⟨a, l, i, u⟩ := s
    obtain ⟨p, hp, e1, e2, e3, e4, e5, e6⟩ := hI
    have e1 : i = nI p := e1
    have e2 : a = bsA (foldN (bsS T) p none) := e2
    have e3 : l = bsL (foldN (bsS T) p none) := e3
    have e5 : SQ x m σ u := e5
    have e6 : zI u 7 x = zI σ 7 x := e6
    subst e1
    subst e2
    subst e3
    have hu := h.sq e5
    have mu : MInv m u := hu.2.2.2.1
    have eu : zAI u (m + 1) = T := hu.2.2.2.2.1
    show ∃ y, f_X9_bestStone_L22 m c1 _ _ (nI p) u = some y ∧ _
    unfold f_X9_bestStone_L22 f_X9_bestStone_J61_22 f_X9_bestStone_J67_22
    by_cases hlt : p < fn T 0
    · obtain ⟨u1, c2, c3, c4⟩ := q_stoneAt hu p
      refine ⟨.inl (bsA (foldN (bsS T) (p + 1) none), bsL (foldN (bsS T) (p + 1) none), nI (p + 1), u1), ?_, ⟨p + 1, hlt, rfl, rfl, rfl, e4.step (by omega) (hl9 p), e5.trans c3, c4.trans e6⟩, ?_⟩
      · rw [foldN]
        generalize foldN (bsS T) p none = o at *
        unfold bsS
        cases hv : lsN T p with
        | none =>
          rw [hv] at c2
          simp (disch := first | exact mu | omega) [mR900, mR901, mR905, mR906, mR907, mR908, mR909, mR921, mR924, mR925, mR929, mR930, mR931, mR932, mR934, mR935, mR936, mR940, mR949, mR950, mR951, ml_at, ml_names, ml_sort, ml_trayMany, ml_trays, ml_tape, ml_text, ml_opened, ml_now, ml_lies, ml_moveKind, ml_moveOne, ml_moveTwo, ml_moveThird, ml_far, ml_come, ml_good, ml_way, ml_rounds, ml_told0, ml_endAt, ms_at, ms_names, ms_sort, ms_trayMany, ms_trays, ms_tape, ms_text, ms_opened, ms_now, ms_lies, ms_moveKind, ms_moveOne, ms_moveTwo, ms_moveThird, ms_far, ms_come, ms_good, ms_way, ms_rounds, ms_told0, ms_endAt, mgI, mgL, mpI, mpL, mpZ, mvc, bnd2_s, bind_s, rz, lI, mI_eq, nI_add, pk_mul, nlt, nle, neq, nI_mI, mI_nI, nltm, mltn, nsub, zremN, zdivN, eu, h0T, hlt, c2, oI]
        | some v =>
          rw [hv] at c2
          have hv9 := hl9 p v hv
          cases o with
          | none => simp (disch := first | exact mu | omega) [mR900, mR901, mR905, mR906, mR907, mR908, mR909, mR921, mR924, mR925, mR929, mR930, mR931, mR932, mR934, mR935, mR936, mR940, mR949, mR950, mR951, ml_at, ml_names, ml_sort, ml_trayMany, ml_trays, ml_tape, ml_text, ml_opened, ml_now, ml_lies, ml_moveKind, ml_moveOne, ml_moveTwo, ml_moveThird, ml_far, ml_come, ml_good, ml_way, ml_rounds, ml_told0, ml_endAt, ms_at, ms_names, ms_sort, ms_trayMany, ms_trays, ms_tape, ms_text, ms_opened, ms_now, ms_lies, ms_moveKind, ms_moveOne, ms_moveTwo, ms_moveThird, ms_far, ms_come, ms_good, ms_way, ms_rounds, ms_told0, ms_endAt, mgI, mgL, mpI, mpL, mpZ, mvc, bnd2_s, bind_s, rz, lI, mI_eq, nI_add, pk_mul, nlt, nle, neq, nI_mI, mI_nI, nltm, mltn, nsub, zremN, zdivN, eu, h0T, hlt, c2, oI, bsA, bsL]
          | some q =>
            have hq := e4 q rfl
            by_cases e : v < q.2
            · simp (disch := first | exact mu | omega) [mR900, mR901, mR905, mR906, mR907, mR908, mR909, mR921, mR924, mR925, mR929, mR930, mR931, mR932, mR934, mR935, mR936, mR940, mR949, mR950, mR951, ml_at, ml_names, ml_sort, ml_trayMany, ml_trays, ml_tape, ml_text, ml_opened, ml_now, ml_lies, ml_moveKind, ml_moveOne, ml_moveTwo, ml_moveThird, ml_far, ml_come, ml_good, ml_way, ml_rounds, ml_told0, ml_endAt, ms_at, ms_names, ms_sort, ms_trayMany, ms_trays, ms_tape, ms_text, ms_opened, ms_now, ms_lies, ms_moveKind, ms_moveOne, ms_moveTwo, ms_moveThird, ms_far, ms_come, ms_good, ms_way, ms_rounds, ms_told0, ms_endAt, mgI, mgL, mpI, mpL, mpZ, mvc, bnd2_s, bind_s, rz, lI, mI_eq, nI_add, pk_mul, nlt, nle, neq, nI_mI, mI_nI, nltm, mltn, nsub, zremN, zdivN, eu, h0T, hlt, c2, oI, bsA, bsL, e]
            · simp (disch := first | exact mu | omega) [mR900, mR901, mR905, mR906, mR907, mR908, mR909, mR921, mR924, mR925, mR929, mR930, mR931, mR932, mR934, mR935, mR936, mR940, mR949, mR950, mR951, ml_at, ml_names, ml_sort, ml_trayMany, ml_trays, ml_tape, ml_text, ml_opened, ml_now, ml_lies, ml_moveKind, ml_moveOne, ml_moveTwo, ml_moveThird, ml_far, ml_come, ml_good, ml_way, ml_rounds, ml_told0, ml_endAt, ms_at, ms_names, ms_sort, ms_trayMany, ms_trays, ms_tape, ms_text, ms_opened, ms_now, ms_lies, ms_moveKind, ms_moveOne, ms_moveTwo, ms_moveThird, ms_far, ms_come, ms_good, ms_way, ms_rounds, ms_told0, ms_endAt, mgI, mgL, mpI, mpL, mpZ, mvc, bnd2_s, bind_s, rz, lI, mI_eq, nI_add, pk_mul, nlt, nle, neq, nI_mI, mI_nI, nltm, mltn, nsub, zremN, zdivN, eu, h0T, hlt, c2, oI, bsA, bsL, e]
      · show 9 - (nI (p + 1)).toNatClampNeg < 9 - (nI p).toNatClampNeg
        rw [nI_clamp (by omega), nI_clamp (by omega)]
        omega
    · have hpe : p = fn T 0 := by omega
      refine ⟨.inr (bsA (foldN (bsS T) p none), bsL (foldN (bsS T) p none), u), ?_, by rw [hpe], by rw [hpe], e5, e6⟩
      simp (disch := first | exact mu | omega) [mR900, mR901, mR905, mR906, mR907, mR908, mR909, mR921, mR924, mR925, mR929, mR930, mR931, mR932, mR934, mR935, mR936, mR940, mR949, mR950, mR951, ml_at, ml_names, ml_sort, ml_trayMany, ml_trays, ml_tape, ml_text, ml_opened, ml_now, ml_lies, ml_moveKind, ml_moveOne, ml_moveTwo, ml_moveThird, ml_far, ml_come, ml_good, ml_way, ml_rounds, ml_told0, ml_endAt, ms_at, ms_names, ms_sort, ms_trayMany, ms_trays, ms_tape, ms_text, ms_opened, ms_now, ms_lies, ms_moveKind, ms_moveOne, ms_moveTwo, ms_moveThird, ms_far, ms_come, ms_good, ms_way, ms_rounds, ms_told0, ms_endAt, mgI, mgL, mpI, mpL, mpZ, mvc, bnd2_s, bind_s, rz, lI, mI_eq, nI_add, pk_mul, nlt, nle, neq, nI_mI, mI_nI, nltm, mltn, nsub, zremN, zdivN, eu, h0T, hlt]
end
