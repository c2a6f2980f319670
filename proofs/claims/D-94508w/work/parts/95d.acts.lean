set_option maxRecDepth 100000
section
variable {x m t : Nat} {σ τ : ZT} {own : Nat → Nat} {T : Nat → Int32} {B P O : Nat → Nat}
theorem no_pair (h : RZ x m own σ) {c d : ZT → Option (Int32 × ZT)} {R v : Int32} (hc : c σ = some (R, sI σ 7 x v)) (hd : d (sI σ 7 x v) = some (R, sI (sI σ 7 x v) 902 m v)) : PR x m own σ c d :=
  Pr.rz h (Pr.of (by have := h.1; omega) (τ1 := sI σ 7 x v) (τ2 := sI σ 7 x v) hc (FX.refl _) hd (FR.refl _))
theorem rz_b (b : Bool) : rz (bI b) = some (bI b) := rz_bI b
theorem rz_go (h : RZ x m own σ) (i j : Int32) : PR x m own σ (f_X0_go x i j) (f_X9_go m i j) := by
  obtain ⟨t, B, P, O, hb, -, -, -, hn⟩ := h.sb
  have hT := hb.2.2.2.2.2.1
  have n4 := hT.2.2.2.1
  have n8 := hT.2.2.1
  have x0 : CInv x σ := hb.2.2.1.1
  have hpi := p_isPerson hb.2.2.1 hT i
  have hpb := p_isBridge hb.2.2.1 hT j
  have hqi : ∀ τ, MInv m τ → zAI τ (m + 1) = zAI σ (m + 1) → f_X9_isPerson m i τ = some (bI (ok i (fn (zAI σ (m + 1)) 2)), τ) := fun τ mm e => by
    have := q_isPerson mm (by rw [e]; exact hT) i
    rw [e] at this; exact this
  have hqb : ∀ τ, MInv m τ → zAI τ (m + 1) = zAI σ (m + 1) → f_X9_isBridge m j τ = some (bI (ok j (fn (zAI σ (m + 1)) 1)), τ) := fun τ mm e => by
    have := q_isBridge mm (by rw [e]; exact hT) j
    rw [e] at this; exact this
  by_cases hok : ok i (fn (zAI σ (m + 1)) 2) = true ∧ ok j (fn (zAI σ (m + 1)) 1) = true
  · obtain ⟨o1, o2⟩ := hok
    rw [o1] at hpi
    rw [o2] at hpb
    simp only [o1] at hqi
    simp only [o2] at hqb
    obtain ⟨p, hp, rfl⟩ := ok_of (by omega) o1
    obtain ⟨br, hbr, rfl⟩ := ok_of (by omega) o2
    have hv : MvW (zAI σ (m + 1)) (0, p, none, some br) := ⟨hp, fun _ => ⟨fun q hq => (by cases hq), br, rfl, hbr⟩, fun hh => (by cases hh)⟩
    refine act_pair h hb hn hv ?_ (fun τ y mm e tk => ?_)
    · have hd := p_doesNow hb hv (show (0 : Nat) < 4 by decide) (fun _ => rfl) (fun hh => by cases hh)
      have hd : f_X0_does x (nI 1) (nI 0) (nI p) mI (nI br) σ = _ := hd
      unfold f_X0_go f_X0_go_J22
      simp (disch := first | exact x0 | omega) only [xv_0, hpi, hpb, bI, bnd2_s, lI, n1n0, if_true, if_false, mI_eq, hd]
      cases sMv (zAI σ (m + 1)) (zI σ 503 (x + 10), zI σ 504 (x + 10), zI σ 505 (x + 10)) (0, p, none, some br) (zAI σ (x + 17), zAI σ (x + 18)) <;> rfl
    · have m2 : ∀ r, MInv m (NL m τ r) := fun r => mm
      have hg := q_mv01 mm (by rw [e]; exact hT) (by rw [e]; exact hv) (show (0 : Nat) < 2 by decide) rfl y
      have hg : f_X9_goesOver m (nI p) mI (nI br) (NL m τ y) = _ := hg
      have hdo := q_doneOr mm (sMv (zAI τ (m + 1)) (mOt m τ) (0, p, none, some br) y) y
      rw [e] at hg hdo
      unfold f_X9_go
      simp (disch := first | exact mm | exact m2 _ | omega) only [mvc, hqi τ mm e, hqb τ mm e, bI, bnd2_s, lI, n1n0, if_true, if_false, mI_eq, tk, bind_s, hg, hdo]
      cases sMv (zAI σ (m + 1)) (mOt m τ) (0, p, none, some br) y <;> rfl
  · have m1 : MInv m (sI σ 7 x (nI 1)) := hb.2.2.2.1
    have hno := p_doesNo x0 (nI 0) i mI j
    have hq := q_is m1 (nI 1)
    rw [if_neg n1n0] at hq
    have hq1 := hqi _ m1 rfl
    have hq2 := hqb _ m1 rfl
    refine no_pair h (R := nI 0) (v := nI 1) ?_ ?_
    · unfold f_X0_go f_X0_go_J21 f_X0_go_J22
      cases o1 : ok i (fn (zAI σ (m + 1)) 2) with
      | false =>
        rw [o1] at hpi
        simp (disch := first | exact x0 | omega) [xv_0, hpi, bI, bnd2_s, lI, mI_eq, hno, rz]
      | true =>
        have o2 : ok j (fn (zAI σ (m + 1)) 1) = false := by
          cases o2 : ok j (fn (zAI σ (m + 1)) 1) with
          | false => rfl
          | true => exact absurd ⟨o1, o2⟩ hok
        rw [o1] at hpi
        rw [o2] at hpb
        simp (disch := first | exact x0 | omega) [xv_0, hpi, hpb, bI, bnd2_s, lI, n1n0, mI_eq, hno, rz]
    · unfold f_X9_go f_X9_go_J16
      cases o1 : ok i (fn (zAI σ (m + 1)) 2) with
      | false =>
        rw [o1] at hq1
        simp (disch := first | exact m1 | omega) [mvc, hq1, bI, bnd2_s, lI, hq, rz]
      | true =>
        have o2 : ok j (fn (zAI σ (m + 1)) 1) = false := by
          cases o2 : ok j (fn (zAI σ (m + 1)) 1) with
          | false => rfl
          | true => exact absurd ⟨o1, o2⟩ hok
        rw [o1] at hq1
        rw [o2] at hq2
        simp (disch := first | exact m1 | omega) [mvc, hq1, hq2, bI, bnd2_s, lI, n1n0, hq, rz]
theorem rz_lift (h : RZ x m own σ) (i j : Int32) : PR x m own σ (f_X0_lift x i j) (f_X9_lift m i j) := by
  obtain ⟨t, B, P, O, hb, -, -, -, hn⟩ := h.sb
  have hT := hb.2.2.2.2.2.1
  have n4 := hT.2.2.2.1
  have n8 := hT.2.2.2.2.1
  have x0 : CInv x σ := hb.2.2.1.1
  have hpi := p_isPerson hb.2.2.1 hT i
  have hpb := p_isLoad hb.2.2.1 hT j
  have hqi : ∀ τ, MInv m τ → zAI τ (m + 1) = zAI σ (m + 1) → f_X9_isPerson m i τ = some (bI (ok i (fn (zAI σ (m + 1)) 2)), τ) := fun τ mm e => by
    have := q_isPerson mm (by rw [e]; exact hT) i
    rw [e] at this; exact this
  have hqb : ∀ τ, MInv m τ → zAI τ (m + 1) = zAI σ (m + 1) → f_X9_isLoad m j τ = some (bI (ok j (fn (zAI σ (m + 1)) 3)), τ) := fun τ mm e => by
    have := q_isLoad mm (by rw [e]; exact hT) j
    rw [e] at this; exact this
  by_cases hok : ok i (fn (zAI σ (m + 1)) 2) = true ∧ ok j (fn (zAI σ (m + 1)) 3) = true
  · obtain ⟨o1, o2⟩ := hok
    rw [o1] at hpi
    rw [o2] at hpb
    simp only [o1] at hqi
    simp only [o2] at hqb
    obtain ⟨p, hp, rfl⟩ := ok_of (by omega) o1
    obtain ⟨br, hbr, rfl⟩ := ok_of (by omega) o2
    have hv : MvW (zAI σ (m + 1)) (2, p, none, some br) := ⟨hp, fun hh => absurd hh (show ¬ (2 : Nat) < 2 by decide), fun _ => ⟨br, rfl, hbr⟩⟩
    refine act_pair h hb hn hv ?_ (fun τ y mm e tk => ?_)
    · have hd := p_doesNow hb hv (show (2 : Nat) < 4 by decide) (fun hh => by cases hh) (fun hh => by cases hh)
      have hd : f_X0_does x (nI 1) (nI 2) (nI p) mI (nI br) σ = _ := hd
      unfold f_X0_lift f_X0_lift_J22
      simp (disch := first | exact x0 | omega) only [xv_0, hpi, hpb, bI, bnd2_s, lI, n1n0, if_true, if_false, mI_eq, hd]
      cases sMv (zAI σ (m + 1)) (zI σ 503 (x + 10), zI σ 504 (x + 10), zI σ 505 (x + 10)) (2, p, none, some br) (zAI σ (x + 17), zAI σ (x + 18)) <;> rfl
    · have m2 : ∀ r, MInv m (NL m τ r) := fun r => mm
      have hg := q_mv2 mm (by rw [e]; exact hT) (by rw [e]; exact hv) rfl rfl y
      have hg : f_X9_lifts m (nI p) (nI br) (NL m τ y) = _ := hg
      have hdo := q_doneOr mm (sMv (zAI τ (m + 1)) (mOt m τ) (2, p, none, some br) y) y
      rw [e] at hg hdo
      unfold f_X9_lift
      simp (disch := first | exact mm | exact m2 _ | omega) only [mvc, hqi τ mm e, hqb τ mm e, bI, bnd2_s, lI, n1n0, if_true, if_false, tk, bind_s, hg, hdo]
      cases sMv (zAI σ (m + 1)) (mOt m τ) (2, p, none, some br) y <;> rfl
  · have m1 : MInv m (sI σ 7 x (nI 1)) := hb.2.2.2.1
    have hno := p_doesNo x0 (nI 2) i mI j
    have hq := q_is m1 (nI 1)
    rw [if_neg n1n0] at hq
    have hq1 := hqi _ m1 rfl
    have hq2 := hqb _ m1 rfl
    refine no_pair h (R := nI 0) (v := nI 1) ?_ ?_
    · unfold f_X0_lift f_X0_lift_J21 f_X0_lift_J22
      cases o1 : ok i (fn (zAI σ (m + 1)) 2) with
      | false =>
        rw [o1] at hpi
        simp (disch := first | exact x0 | omega) [xv_0, hpi, bI, bnd2_s, lI, mI_eq, hno, rz]
      | true =>
        have o2 : ok j (fn (zAI σ (m + 1)) 3) = false := by
          cases o2 : ok j (fn (zAI σ (m + 1)) 3) with
          | false => rfl
          | true => exact absurd ⟨o1, o2⟩ hok
        rw [o1] at hpi
        rw [o2] at hpb
        simp (disch := first | exact x0 | omega) [xv_0, hpi, hpb, bI, bnd2_s, lI, n1n0, mI_eq, hno, rz]
    · unfold f_X9_lift f_X9_lift_J16
      cases o1 : ok i (fn (zAI σ (m + 1)) 2) with
      | false =>
        rw [o1] at hq1
        simp (disch := first | exact m1 | omega) [mvc, hq1, bI, bnd2_s, lI, hq, rz]
      | true =>
        have o2 : ok j (fn (zAI σ (m + 1)) 3) = false := by
          cases o2 : ok j (fn (zAI σ (m + 1)) 3) with
          | false => rfl
          | true => exact absurd ⟨o1, o2⟩ hok
        rw [o1] at hq1
        rw [o2] at hq2
        simp (disch := first | exact m1 | omega) [mvc, hq1, hq2, bI, bnd2_s, lI, n1n0, hq, rz]
theorem rz_drop (h : RZ x m own σ) (i : Int32) : PR x m own σ (f_X0_drop x i) (f_X9_drop m i) := by
  obtain ⟨t, B, P, O, hb, -, -, -, hn⟩ := h.sb
  have hT := hb.2.2.2.2.2.1
  have n4 := hT.2.2.2.1
  have x0 : CInv x σ := hb.2.2.1.1
  have hpi := p_isPerson hb.2.2.1 hT i
  have hqi : ∀ τ, MInv m τ → zAI τ (m + 1) = zAI σ (m + 1) → f_X9_isPerson m i τ = some (bI (ok i (fn (zAI σ (m + 1)) 2)), τ) := fun τ mm e => by
    have := q_isPerson mm (by rw [e]; exact hT) i
    rw [e] at this; exact this
  by_cases o1 : ok i (fn (zAI σ (m + 1)) 2) = true
  · rw [o1] at hpi
    simp only [o1] at hqi
    obtain ⟨p, hp, rfl⟩ := ok_of (by omega) o1
    have hv : MvW (zAI σ (m + 1)) (3, p, none, none) := ⟨hp, fun hh => absurd hh (show ¬ (3 : Nat) < 2 by decide), fun hh => absurd hh (show ¬ (3 : Nat) = 2 by decide)⟩
    refine act_pair h hb hn hv ?_ (fun τ y mm e tk => ?_)
    · have hd := p_doesNow hb hv (show (3 : Nat) < 4 by decide) (fun hh => by cases hh) (fun hh => by cases hh)
      have hd : f_X0_does x (nI 1) (nI 3) (nI p) mI mI σ = _ := hd
      unfold f_X0_drop
      simp (disch := first | exact x0 | omega) only [xv_0, hpi, bI, bnd2_s, lI, n1n0, if_true, if_false, mI_eq, hd]
      cases sMv (zAI σ (m + 1)) (zI σ 503 (x + 10), zI σ 504 (x + 10), zI σ 505 (x + 10)) (3, p, none, none) (zAI σ (x + 17), zAI σ (x + 18)) <;> rfl
    · have m2 : ∀ r, MInv m (NL m τ r) := fun r => mm
      have hg := q_mv3 mm (by rw [e]; exact hT) (by rw [e]; exact hv) rfl y
      have hg : f_X9_drops m (nI p) (NL m τ y) = _ := hg
      have hdo := q_doneOr mm (sMv (zAI τ (m + 1)) (mOt m τ) (3, p, none, none) y) y
      rw [e] at hg hdo
      unfold f_X9_drop
      simp (disch := first | exact mm | exact m2 _ | omega) only [mvc, hqi τ mm e, bI, bnd2_s, lI, n1n0, if_true, if_false, tk, bind_s, hg, hdo]
      cases sMv (zAI σ (m + 1)) (mOt m τ) (3, p, none, none) y <;> rfl
  · have o1 : ok i (fn (zAI σ (m + 1)) 2) = false := by simpa using o1
    have m1 : MInv m (sI σ 7 x (nI 1)) := hb.2.2.2.1
    have hno := p_doesNo x0 (nI 3) i mI mI
    have hq := q_is m1 (nI 1)
    rw [if_neg n1n0] at hq
    have hq1 := hqi _ m1 rfl
    rw [o1] at hq1 hpi
    refine no_pair h (R := nI 0) (v := nI 1) ?_ ?_
    · unfold f_X0_drop
      simp (disch := first | exact x0 | omega) [xv_0, hpi, bI, bnd2_s, lI, mI_eq, hno, rz]
    · unfold f_X9_drop
      simp (disch := first | exact m1 | omega) [mvc, hq1, bI, bnd2_s, lI, hq, rz]
theorem rz_both (h : RZ x m own σ) (i j k : Int32) : PR x m own σ (f_X0_both x i j k) (f_X9_both m i j k) := by
  obtain ⟨t, B, P, O, hb, -, -, -, hn⟩ := h.sb
  have hT := hb.2.2.2.2.2.1
  have n4 := hT.2.2.2.1
  have n8 := hT.2.2.1
  have x0 : CInv x σ := hb.2.2.1.1
  have hpi := p_isPerson hb.2.2.1 hT i
  have hpj := p_isPerson hb.2.2.1 hT j
  have hpb := p_isBridge hb.2.2.1 hT k
  have hqi : ∀ τ, MInv m τ → zAI τ (m + 1) = zAI σ (m + 1) → f_X9_isPerson m i τ = some (bI (ok i (fn (zAI σ (m + 1)) 2)), τ) := fun τ mm e => by
    have := q_isPerson mm (by rw [e]; exact hT) i
    rw [e] at this; exact this
  have hqj : ∀ τ, MInv m τ → zAI τ (m + 1) = zAI σ (m + 1) → f_X9_isPerson m j τ = some (bI (ok j (fn (zAI σ (m + 1)) 2)), τ) := fun τ mm e => by
    have := q_isPerson mm (by rw [e]; exact hT) j
    rw [e] at this; exact this
  have hqb : ∀ τ, MInv m τ → zAI τ (m + 1) = zAI σ (m + 1) → f_X9_isBridge m k τ = some (bI (ok k (fn (zAI σ (m + 1)) 1)), τ) := fun τ mm e => by
    have := q_isBridge mm (by rw [e]; exact hT) k
    rw [e] at this; exact this
  by_cases hok : ok i (fn (zAI σ (m + 1)) 2) = true ∧ ok j (fn (zAI σ (m + 1)) 2) = true ∧ ¬ i = j ∧ ok k (fn (zAI σ (m + 1)) 1) = true
  · obtain ⟨o1, o2, o3, o4⟩ := hok
    rw [o1] at hpi
    rw [o2] at hpj
    rw [o4] at hpb
    simp only [o1] at hqi
    simp only [o2] at hqj
    simp only [o4] at hqb
    obtain ⟨p, hp, rfl⟩ := ok_of (by omega) o1
    obtain ⟨q, hq, rfl⟩ := ok_of (by omega) o2
    obtain ⟨br, hbr, rfl⟩ := ok_of (by omega) o4
    have hne : q ≠ p := fun e => o3 (by rw [e])
    have hv : MvW (zAI σ (m + 1)) (1, p, some q, some br) := ⟨hp, fun _ => ⟨fun q' hq' => by cases hq'; exact ⟨hq, hne⟩, br, rfl, hbr⟩, fun hh => (by cases hh)⟩
    refine act_pair h hb hn hv ?_ (fun τ y mm e tk => ?_)
    · have hd := p_doesNow hb hv (show (1 : Nat) < 4 by decide) (fun hh => by cases hh) (fun _ => ⟨q, rfl⟩)
      have hd : f_X0_does x (nI 1) (nI 1) (nI p) (nI q) (nI br) σ = _ := hd
      unfold f_X0_both f_X0_both_J35
      simp (disch := first | exact x0 | omega) only [xv_0, hpi, hpj, hpb, bI, bnd2_s, lI, n1n0, if_true, if_false, o3, hd]
      cases sMv (zAI σ (m + 1)) (zI σ 503 (x + 10), zI σ 504 (x + 10), zI σ 505 (x + 10)) (1, p, some q, some br) (zAI σ (x + 17), zAI σ (x + 18)) <;> rfl
    · have m2 : ∀ r, MInv m (NL m τ r) := fun r => mm
      have hg := q_mv01 mm (by rw [e]; exact hT) (by rw [e]; exact hv) (show (1 : Nat) < 2 by decide) rfl y
      have hg : f_X9_goesOver m (nI p) (nI q) (nI br) (NL m τ y) = _ := hg
      have hdo := q_doneOr mm (sMv (zAI τ (m + 1)) (mOt m τ) (1, p, some q, some br) y) y
      rw [e] at hg hdo
      unfold f_X9_both f_X9_areTwo f_X9_areTwo_J26
      simp (disch := first | exact mm | exact m2 _ | omega) only [mvc, hqi τ mm e, hqj τ mm e, hqb τ mm e, bI, bnd2_s, lI, n1n0, if_true, if_false, o3, rz, or_true, tk, bind_s, hg, hdo]
      cases sMv (zAI σ (m + 1)) (mOt m τ) (1, p, some q, some br) y <;> rfl
  · have m1 : MInv m (sI σ 7 x (nI 1)) := hb.2.2.2.1
    have hno := p_doesNo x0 (nI 1) i j k
    have hq := q_is m1 (nI 1)
    rw [if_neg n1n0] at hq
    have hq1 := hqi _ m1 rfl
    have hq2 := hqj _ m1 rfl
    have hq3 := hqb _ m1 rfl
    refine no_pair h (R := nI 0) (v := nI 1) ?_ ?_
    · unfold f_X0_both f_X0_both_J34 f_X0_both_J35
      cases o1 : ok i (fn (zAI σ (m + 1)) 2) with
      | false =>
        rw [o1] at hpi
        simp (disch := first | exact x0 | omega) [xv_0, hpi, bI, bnd2_s, lI, hno, rz]
      | true =>
        rw [o1] at hpi
        cases o2 : ok j (fn (zAI σ (m + 1)) 2) with
        | false =>
          rw [o2] at hpj
          simp (disch := first | exact x0 | omega) [xv_0, hpi, hpj, bI, bnd2_s, lI, n1n0, hno, rz]
        | true =>
          rw [o2] at hpj
          by_cases o3 : i = j
          · subst o3
            simp (disch := first | exact x0 | omega) [xv_0, hpi, bI, bnd2_s, lI, n1n0, hno, rz]
          · have o4 : ok k (fn (zAI σ (m + 1)) 1) = false := by
              cases o4 : ok k (fn (zAI σ (m + 1)) 1) with
              | false => rfl
              | true => exact absurd ⟨o1, o2, o3, o4⟩ hok
            rw [o4] at hpb
            simp (disch := first | exact x0 | omega) [xv_0, hpi, hpj, hpb, bI, bnd2_s, lI, n1n0, hno, rz, o3]
    · unfold f_X9_both f_X9_both_J17 f_X9_areTwo f_X9_areTwo_J25 f_X9_areTwo_J26
      cases o1 : ok i (fn (zAI σ (m + 1)) 2) with
      | false =>
        rw [o1] at hq1
        simp (disch := first | exact m1 | omega) [mvc, hq1, bI, bnd2_s, lI, hq, rz]
      | true =>
        rw [o1] at hq1
        cases o2 : ok j (fn (zAI σ (m + 1)) 2) with
        | false =>
          rw [o2] at hq2
          simp (disch := first | exact m1 | omega) [mvc, hq1, hq2, bI, bnd2_s, lI, n1n0, hq, rz]
        | true =>
          rw [o2] at hq2
          by_cases o3 : i = j
          · subst o3
            simp (disch := first | exact m1 | omega) [mvc, hq1, bI, bnd2_s, lI, n1n0, hq, rz]
          · have o4 : ok k (fn (zAI σ (m + 1)) 1) = false := by
              cases o4 : ok k (fn (zAI σ (m + 1)) 1) with
              | false => rfl
              | true => exact absurd ⟨o1, o2, o3, o4⟩ hok
            rw [o4] at hq3
            simp (disch := first | exact m1 | omega) [mvc, hq1, hq2, hq3, bI, bnd2_s, lI, n1n0, hq, rz, o3]
theorem rz_put (h : RZ x m own σ) (i j : Int32) : PR x m own σ (f_X0_put_2 x i j) (f_X9_put m i j) := by
  obtain ⟨t, B, P, O, hb, -, -, -, hn⟩ := h.sb
  have hxm := h.1
  have hT := hb.2.2.2.2.2.1
  have hS := hb.2.2.2.2.2.2.1
  have hN := hb.2.2.2.2.2.2.2.1
  have n4 := hT.2.2.2.1
  have n8 := hT.2.1
  have x0 : CInv x σ := hb.2.2.1.1
  have hpi := p_isPerson hb.2.2.1 hT i
  have hpb := p_isPlace hb.2.2.1 hT j
  have hqi : ∀ τ, MInv m τ → zAI τ (m + 1) = zAI σ (m + 1) → f_X9_isPerson m i τ = some (bI (ok i (fn (zAI σ (m + 1)) 2)), τ) := fun τ mm e => by
    have := q_isPerson mm (by rw [e]; exact hT) i
    rw [e] at this; exact this
  have hqb : ∀ τ, MInv m τ → zAI τ (m + 1) = zAI σ (m + 1) → f_X9_isPlace m j τ = some (bI (ok j (fn (zAI σ (m + 1)) 0)), τ) := fun τ mm e => by
    have := q_isPlace mm (by rw [e]; exact hT) j
    rw [e] at this; exact this
  by_cases hok : ok i (fn (zAI σ (m + 1)) 2) = true ∧ ok j (fn (zAI σ (m + 1)) 0) = true
  · obtain ⟨o1, o2⟩ := hok
    rw [o1] at hpi
    rw [o2] at hpb
    simp only [o1] at hqi
    simp only [o2] at hqb
    obtain ⟨p, hp, rfl⟩ := ok_of (by omega) o1
    obtain ⟨pl, hpl, rfl⟩ := ok_of (by omega) o2
    have x1 : CInv x (sI σ 7 x (nI 0)) := x0
    have x2 : CInv x (sAI (sI σ 7 x (nI 0)) (x + 17) p (nI pl)) := x0
    have k1 : KX x m σ (sAI (sI σ 7 x (nI 0)) (x + 17) p (nI pl)) := by
      rw [sAI_r]; exact (KX.st7 _).trans (KX.air (by omega) _)
    have m1 := k1.minv hb.2.2.2.1
    have e1 : zAI (sAI (sI σ 7 x (nI 0)) (x + 17) p (nI pl)) (m + 1) = zAI σ (m + 1) := by
      rw [sAI_r, zAIr_ne _ (by omega)]; rfl
    have e17 : zAI (sAI (sI σ 7 x (nI 0)) (x + 17) p (nI pl)) (x + 17) = up (zAI σ (x + 17)) p (nI pl) := by
      rw [sAI_r, zAIr_at]; rfl
    have e18 : zAI (sAI (sI σ 7 x (nI 0)) (x + 17) p (nI pl)) (x + 18) = zAI σ (x + 18) := by
      rw [sAI_r, zAIr_ne _ (by omega)]; rfl
    have z7 : zI (sAI (sI σ 7 x (nI 0)) (x + 17) p (nI pl)) 7 x = nI 0 := by
      rw [zI_sAI, r_II, if_pos ⟨rfl, rfl⟩]
    have hc : f_X0_put_2 x (nI p) (nI pl) σ = some (nI 1, sAI (sI σ 7 x (nI 0)) (x + 17) p (nI pl)) := by
      unfold f_X0_put_2 f_X0_put_2_J22 f_X0_put_2_J45 f_X0_put_2_J57
      simp (disch := first | exact x0 | exact x1 | exact x2 | omega) [xv_0, hpi, hpb, bI, bnd2_s, lI, n1n0, xp_0, xi_0, r_II, xr_10_0, xr_400_9, xr_501_10, xs_17, z7, rz]
    generalize sAI (sI σ 7 x (nI 0)) (x + 17) p (nI pl) = τ1 at *
    have m2 : MInv m (sAI τ1 (m + 1) (110 + p) (nI pl)) := m1
    have hq := q_is m2 (nI 0)
    rw [if_pos rfl] at hq
    have hd : f_X9_put m (nI p) (nI pl) τ1 = some (nI 1, sI (sAI τ1 (m + 1) (110 + p) (nI pl)) 902 m (nI 0)) := by
      have hst : stI (m + 1) (nI (110 + p)) (nI pl) τ1 = some (sAI τ1 (m + 1) (110 + p) (nI pl)) := ms_at m1 (by omega) _
      unfold f_X9_put
      simp (disch := first | exact m1 | exact m2 | omega) [mvc, hqi τ1 m1 e1, hqb τ1 m1 e1, bI, bnd2_s, lI, n1n0, mR900, nI_add, hst, hq, rz]
    have k2 : KX x m τ1 (sI (sAI τ1 (m + 1) (110 + p) (nI pl)) 902 m (nI 0)) := by
      rw [sAI_r]; exact (KX.air (by omega) _).trans (KX.st902 _)
    have k3 := k1.trans k2
    have est : up (zAI σ (m + 1)) (110 + p) (nI pl) = stay (zAI σ (m + 1)) (up (nowS (zAI σ (m + 1))).1 p (nI pl), (nowS (zAI σ (m + 1))).2) := by
      funext k
      unfold up stay nowS
      by_cases c1 : 110 ≤ k ∧ k < 114
      · rw [if_pos c1]
        show (if k = 110 + p then nI pl else zAI σ (m + 1) k) = (if k - 110 = p then nI pl else zAI σ (m + 1) (110 + (k - 110)))
        rw [show 110 + (k - 110) = k by omega]
        by_cases c2 : k = 110 + p
        · rw [if_pos c2, if_pos (by omega)]
        · rw [if_neg c2, if_neg (by omega)]
      · rw [if_neg c1, if_neg (by omega)]
        by_cases c2 : 114 ≤ k ∧ k < 116
        · rw [if_pos c2]
          show zAI σ (m + 1) k = zAI σ (m + 1) (114 + (k - 114))
          rw [show 114 + (k - 114) = k by omega]
        · rw [if_neg c2]
    refine ⟨nI 1, _, _, own, hc, hd, h.act2 k3 (r := (up (nowS (zAI σ (m + 1))).1 p (nI pl), (nowS (zAI σ (m + 1))).2)) ?_ ?_ ?_ ?_, by rw [k3.2.2.2.2.2.2.1.2.1]; omega, by rw [k3.2.2.2.2.2.2.1.2.2]; omega⟩
    · rw [r_II, if_neg (by omega), r_II, if_pos ⟨rfl, rfl⟩, zI_sAI]
      exact z7
    · rw [zAI_sI, sAI_r, zAIr_at, e1]
      exact est
    · obtain ⟨s1, s2, s3⟩ := hS
      refine ⟨fun q hq => ?_, s2, s3⟩
      show up (nowS (zAI σ (m + 1))).1 p (nI pl) q = nI (fn (up (nowS (zAI σ (m + 1))).1 p (nI pl)) q) ∧ fn (up (nowS (zAI σ (m + 1))).1 p (nI pl)) q < _
      rw [fn_up]
      unfold up
      by_cases c : q = p
      · rw [if_pos c, if_pos c, nI_clamp (by omega)]
        exact ⟨rfl, hpl⟩
      · rw [if_neg c, if_neg c]
        exact s1 q hq
    · rw [zAI_sI, sAI_r, zAIr_ne _ (by omega), zAIr_ne _ (by omega), e17, e18]
      exact ⟨fun q hq => up_agr (n := fn (zAI σ (m + 1)) 2) hN.1 rfl q hq, hN.2⟩
  · have x1 : CInv x (sI σ 7 x (nI 1)) := x0
    have m1 : MInv m (sI σ 7 x (nI 1)) := hb.2.2.2.1
    have hq := q_is m1 (nI 1)
    rw [if_neg n1n0] at hq
    have hq1 := hqi _ m1 rfl
    have hq2 := hqb _ m1 rfl
    refine no_pair h (R := nI 0) (v := nI 1) ?_ ?_
    · unfold f_X0_put_2 f_X0_put_2_J21 f_X0_put_2_J22 f_X0_put_2_J45 f_X0_put_2_J57
      cases o1 : ok i (fn (zAI σ (m + 1)) 2) with
      | false =>
        rw [o1] at hpi
        simp (disch := first | exact x0 | exact x1 | omega) [xv_0, hpi, bI, bnd2_s, lI, n1n0, xp_0, xi_0, r_II, rz]
      | true =>
        have o2 : ok j (fn (zAI σ (m + 1)) 0) = false := by
          cases o2 : ok j (fn (zAI σ (m + 1)) 0) with
          | false => rfl
          | true => exact absurd ⟨o1, o2⟩ hok
        rw [o1] at hpi
        rw [o2] at hpb
        simp (disch := first | exact x0 | exact x1 | omega) [xv_0, hpi, hpb, bI, bnd2_s, lI, n1n0, xp_0, xi_0, r_II, rz]
    · unfold f_X9_put f_X9_put_J16
      cases o1 : ok i (fn (zAI σ (m + 1)) 2) with
      | false =>
        rw [o1] at hq1
        simp (disch := first | exact m1 | omega) [mvc, hq1, bI, bnd2_s, lI, hq, rz]
      | true =>
        have o2 : ok j (fn (zAI σ (m + 1)) 0) = false := by
          cases o2 : ok j (fn (zAI σ (m + 1)) 0) with
          | false => rfl
          | true => exact absurd ⟨o1, o2⟩ hok
        rw [o1] at hq1
        rw [o2] at hq2
        simp (disch := first | exact m1 | omega) [mvc, hq1, hq2, bI, bnd2_s, lI, n1n0, hq, rz]
end
