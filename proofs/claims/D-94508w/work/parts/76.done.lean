set_option maxRecDepth 100000
section
variable {x m t : Nat} {σ : ZT} {T : Nat → Int32} {B P O : Nat → Nat}
/-- as Pr.of, where the component tells its status last -/
theorem Pr.of2 (hm : x + 56 ≤ m) {c d : ZT → Option (Int32 × ZT)} {R v v' : Int32} {τ1 τ2 : ZT} (hc : c σ = some (R, sI τ1 7 x v')) (h1 : SQ x m (sI σ 7 x v) τ1) (hd : d (sI τ1 7 x v') = some (R, sI τ2 902 m v')) (h2 : FR m 933 938 9 17 (sI τ1 7 x v') τ2) : Pr x m σ c d := by
  refine ⟨R, sI τ1 7 x v', sI τ2 902 m v', hc, hd, ((((SQ.st7 v).trans h1).trans (SQ.st7 v')).trans (SQ.ofFR h2)).trans (SQ.st902 v'), ?_⟩
  have hne : x ≠ m := by omega
  rw [r_II, if_neg (by omega), r_II, if_pos ⟨rfl, rfl⟩, h2.i (by omega), r_II, if_pos ⟨rfl, rfl⟩]
theorem pr_fewest (h : SB x m σ t T B P O) (i j : Int32) : Pr x m σ (f_X0_fewest x i j) (f_X9_fewest m i j) := by
  have hT := h.2.2.2.2.2.1
  have n4 := hT.2.2.2.1
  have n0 := hT.2.1
  by_cases hok : ok i (fn T 2) = true ∧ ok j (fn T 0) = true
  · obtain ⟨p, hp, rfl⟩ := ok_of (by omega) hok.1
    obtain ⟨pl, hpl, rfl⟩ := ok_of (by omega) hok.2
    obtain ⟨K, hK⟩ := h.K
    rcases p_fewest h hK hp hpl with ⟨c, τ1, a0, a1, a2⟩ | ⟨a0, τ1, a1, a2⟩
    · have q1 := (SQ.st7 (x := x) (m := m) (nI 0)).trans (SQ.ofFX a2)
      have h2 := h.sq q1
      rw [← mOt_sq q1 h] at hK a1 a0
      rcases q_fewest h2 hK hp hpl with ⟨c', τ2, b0, b1, b2⟩ | ⟨b0, -⟩
      · rw [a0] at b0
        cases b0
        exact Pr.of h.1 a1 a2 b1 b2
      · rw [a0] at b0; cases b0
    · have q1 := ((SQ.st7 (x := x) (m := m) (nI 0)).trans (SQ.ofFX a2)).trans (SQ.st7 (nI 6))
      have h2 := h.sq q1
      rw [← mOt_sq q1 h] at hK a0
      rcases q_fewest h2 hK hp hpl with ⟨c', τ2, b0, -⟩ | ⟨-, τ2, b1, b2⟩
      · rw [a0] at b0; cases b0
      · exact Pr.of2 h.1 a1 (SQ.ofFX a2) b1 b2
  · have x0 : CInv x σ := h.2.2.1.1
    have x1 : CInv x (sI σ 7 x (nI 1)) := x0
    have m1 : MInv m (sI σ 7 x (nI 1)) := h.2.2.2.1
    have eT : zAI (sI σ 7 x (nI 1)) (m + 1) = T := h.2.2.2.2.1
    have hck := q_isPerson m1 (by rw [eT]; exact hT) i
    have hck2 := q_isPlace m1 (by rw [eT]; exact hT) j
    rw [eT] at hck hck2
    refine Pr.of h.1 (R := mI) (v := nI 1) (τ1 := sI σ 7 x (nI 1)) (τ2 := sI σ 7 x (nI 1)) ?_ (FX.refl _) ?_ (FR.refl _)
    · unfold f_X0_fewest f_X0_fewest_J21 f_X0_fewest_J22
      cases h1 : ok i (fn T 2) with
      | false => simp (disch := first | exact x0 | exact x1 | omega) [xv_0, p_isPerson h.2.2.1 hT, h1, bI, bnd2_s, lI, n1n0, xp_0, xi_0, r_II, mI_eq, nlt]
      | true =>
        cases h2 : ok j (fn T 0) with
        | false => simp (disch := first | exact x0 | exact x1 | omega) [xv_0, p_isPerson h.2.2.1 hT, p_isPlace h.2.2.1 hT, h1, h2, bI, bnd2_s, lI, n1n0, xp_0, xi_0, r_II, mI_eq, nlt]
        | true => exact absurd ⟨h1, h2⟩ hok
    · unfold f_X9_fewest f_X9_fewest_J16 f_X9_refuse
      cases h1 : ok i (fn T 2) with
      | false =>
        rw [h1] at hck
        simp (disch := first | exact m1 | omega) [mvc, hck, bI, bnd2_s, lI, n1n0, mI_eq, mpI]
      | true =>
        cases h2 : ok j (fn T 0) with
        | false =>
          rw [h1] at hck
          rw [h2] at hck2
          simp (disch := first | exact m1 | omega) [mvc, hck, hck2, bI, bnd2_s, lI, n1n0, mI_eq, mpI]
        | true => exact absurd ⟨h1, h2⟩ hok
/-! ===== the first state that is done ===== -/
theorem Tn.le {ms : Ms} {c0 k K : Nat} (h : Tn ms c0 k) (hK : BE ms c0 K) : k ≤ K := by
  by_cases e : k ≤ K
  · exact e
  · have := h.2 K (by omega)
    have := hK.1
    omega
theorem Fdn.find {q l : List Nat} {k c : Nat} (h : Fdn T q k c) : (q ++ l).find? (dn T) = some c := by
  obtain ⟨h1, h2, h3⟩ := h
  rw [List.find?_append]
  have : q.find? (dn T) = some c := by
    rw [List.find?_eq_some_iff_getElem]
    obtain ⟨hk, hc⟩ := List.getElem?_eq_some_iff.mp h1
    refine ⟨h2, k, hk, hc, fun j hj => ?_⟩
    have := h3 j hj q[j] (List.getElem?_eq_getElem (by omega))
    simp [this]
  rw [this]
  rfl
/-- the component's search for a state that is done, against the whole queue -/
theorem p_done (h : HC x σ t T B P O) (hT : TW T) (hS : SV T (nowS T)) (hN : Agr T (zAI σ (x + 17), zAI σ (x + 18)) (nowS T)) {K : Nat} (hK : BE (msM T (cOt x σ)) (enc T (nowS T)) K) : ∃ r τ, f_X0_findDone x σ = some (r, τ) ∧ FX x σ τ ∧ zR τ 500 (x + 25) = some t ∧
    ((r = mI ∧ (bfsK (msM T (cOt x σ)) (b0 (enc T (nowS T))) K).2.find? (dn T) = none) ∨ ∃ c d, r = nI (psi T c) ∧ VM T c ∧ (bfsK (msM T (cOt x σ)) (b0 (enc T (nowS T))) K).2.find? (dn T) = some c ∧ (bfsK (msM T (cOt x σ)) (b0 (enc T (nowS T))) K).1 c = some d ∧ d < 129600 ∧ zAI τ (x + 34) (psi T c) = nI d) := by
  obtain ⟨r, τ, k, a1, a2, a3, a4, a5⟩ := p_findDone h hT hS hN
  have hm := Cl_M hT (cOt x σ)
  have hV := VM_enc hT hS
  generalize enc T (nowS T) = c0 at *
  refine ⟨r, τ, a1, a2.1, a2.2.1, ?_⟩
  rcases a5 with ⟨c, e1, e2⟩ | ⟨e1, e2, e3⟩
  · right
    have hB := (bfsK_inv hm hV k).1
    have hmem := List.mem_of_getElem? e2.1
    obtain ⟨d, hd⟩ := Option.ne_none_iff_exists'.mp ((hB.2.1 c).mpr hmem)
    obtain ⟨⟨l, hl⟩, hx⟩ := bfsK_ext hm hV k K (a4.le hK)
    have hdl := hB.2.2.2 c d hd
    have hBl := hB.len
    refine ⟨c, d, e1, (hB.2.2.1 c hmem).1, by rw [hl]; exact e2.find, hx c d hd, by omega, ?_⟩
    rw [a2.2.2.2.2.1 c (hB.2.2.1 c hmem).1, hd]
    rfl
  · left
    cases e2.uniq hK
    refine ⟨e1, ?_⟩
    rw [List.find?_eq_none]
    intro c hc
    simp [e3 c hc]
/-- the first done state's distance; none -/
def fd (T : Nat → Int32) (s : Bf) : Option Nat := (s.2.find? (dn T)).bind s.1
theorem q_fewestMoves (h : MInv m σ) (hT : TW (zAI σ (m + 1))) {c0 : Nat} {s : Bf} {τ : ZT} (hB : BI (VM (zAI σ (m + 1))) 129600 s) (hC : CR m σ c0 s τ) : ∃ τ', f_X9_fewestMoves m τ = some (oI (fd (zAI σ (m + 1)) s), τ') ∧ CR m σ c0 s τ' := by
  have hBl := hB.len
  have key := loop_find (body := fun y : (Int32 × ZT) => f_X9_fewestMoves_L2 m y.1 y.2) (L := s.2) (pd := dn (zAI σ (m + 1))) (P := fun τ => CR m σ c0 s τ) (Q := fun c o => o.1 = oI (s.1 c) ∧ CR m σ c0 s o.2) (fun j c hj hpd τ hC => ?_) (fun j c hj hpd τ hC => ?_) (fun τ hC => ?_) τ hC
  · unfold f_X9_fewestMoves
    rcases key with ⟨k1, τ2, k2, k3⟩ | ⟨c, o, k1, k2, k3, k4⟩
    · refine ⟨τ2, ?_, k3⟩
      unfold fd
      simp only [lI, k2, k1, bind_s, mI_eq]
      rfl
    · refine ⟨o.2, ?_, k4⟩
      have ef : oI (fd (zAI σ (m + 1)) s) = o.1 := by
        unfold fd
        rw [k1, k3]
        rfl
      rw [ef]
      simp only [lI, k2, bind_s]
  · have hcV := (hB.2.2.1 c (List.mem_of_getElem? hj)).1
    have hcl := VM_lt hT hcV
    obtain ⟨i1, i2, i3⟩ := hC.t h
    obtain ⟨y, hd⟩ := q_isDoneAt i1 (by rw [i2]; exact hT) (c := c) (by omega)
    rw [i2] at hd
    have hd' : f_X9_isDoneAt m (nI c) τ = some (nI 0, NL m τ y) := by
      rw [hd]
      show some (bI (dn (zAI σ (m + 1)) c), _) = _
      rw [hpd]; rfl
    have rq := hC.2.2.2.2.2 j c hj
    have r937 := hC.2.2.2.1
    have hjl := (List.getElem?_eq_some_iff.mp hj).1
    refine ⟨NL m τ y, ?_, hC.NL y⟩
    show f_X9_fewestMoves_L2 m (nI j) τ = _
    unfold f_X9_fewestMoves_L2
    simp (disch := first | exact i1 | omega) [mR900, mR901, mR905, mR906, mR907, mR908, mR909, mR921, mR924, mR925, mR929, mR930, mR931, mR932, mR934, mR935, mR936, mR940, mR949, mR950, mR951, ml_at, ml_names, ml_sort, ml_trayMany, ml_trays, ml_tape, ml_text, ml_opened, ml_now, ml_lies, ml_moveKind, ml_moveOne, ml_moveTwo, ml_moveThird, ml_far, ml_come, ml_good, ml_way, ml_rounds, ml_told0, ml_endAt, ms_at, ms_names, ms_sort, ms_trayMany, ms_trays, ms_tape, ms_text, ms_opened, ms_now, ms_lies, ms_moveKind, ms_moveOne, ms_moveTwo, ms_moveThird, ms_far, ms_come, ms_good, ms_way, ms_rounds, ms_told0, ms_endAt, mgI, mgL, mpI, mpL, mpZ, mvc, bnd2_s, bind_s, rz, lI, mI_eq, nI_add, pk_mul, nlt, nle, neq, nI_mI, mI_nI, nltm, mltn, nsub, zremN, zdivN, r937, hjl, rq, hd']
  · have hcV := (hB.2.2.1 c (List.mem_of_getElem? hj)).1
    have hcl := VM_lt hT hcV
    obtain ⟨i1, i2, i3⟩ := hC.t h
    obtain ⟨y, hd⟩ := q_isDoneAt i1 (by rw [i2]; exact hT) (c := c) (by omega)
    rw [i2] at hd
    have hd' : f_X9_isDoneAt m (nI c) τ = some (nI 1, NL m τ y) := by
      rw [hd]
      show some (bI (dn (zAI σ (m + 1)) c), _) = _
      rw [hpd]; rfl
    have hC2 := hC.NL y
    have j1 : MInv m (NL m τ y) := i1
    have rq := hC.2.2.2.2.2 j c hj
    have rq2 := hC2.2.2.2.2.2 j c hj
    have rf := hC2.2.2.2.2.1 c hcl
    have r937 := hC.2.2.2.1
    have hjl := (List.getElem?_eq_some_iff.mp hj).1
    refine ⟨(oI (s.1 c), NL m τ y), ?_, rfl, hC2⟩
    show f_X9_fewestMoves_L2 m (nI j) τ = _
    unfold f_X9_fewestMoves_L2
    simp (disch := first | exact i1 | exact j1 | omega) [mR900, mR901, mR905, mR906, mR907, mR908, mR909, mR921, mR924, mR925, mR929, mR930, mR931, mR932, mR934, mR935, mR936, mR940, mR949, mR950, mR951, ml_at, ml_names, ml_sort, ml_trayMany, ml_trays, ml_tape, ml_text, ml_opened, ml_now, ml_lies, ml_moveKind, ml_moveOne, ml_moveTwo, ml_moveThird, ml_far, ml_come, ml_good, ml_way, ml_rounds, ml_told0, ml_endAt, ms_at, ms_names, ms_sort, ms_trayMany, ms_trays, ms_tape, ms_text, ms_opened, ms_now, ms_lies, ms_moveKind, ms_moveOne, ms_moveTwo, ms_moveThird, ms_far, ms_come, ms_good, ms_way, ms_rounds, ms_told0, ms_endAt, mgI, mgL, mpI, mpL, mpZ, mvc, bnd2_s, bind_s, rz, lI, mI_eq, nI_add, pk_mul, nlt, nle, neq, nI_mI, mI_nI, nltm, mltn, nsub, zremN, zdivN, r937, hjl, rq, rq2, rf, hd']
  · have c5 : MInv m τ := hC.1.inv h
    have r937 := hC.2.2.2.1
    show f_X9_fewestMoves_L2 m (nI _) τ = _
    unfold f_X9_fewestMoves_L2
    simp (disch := first | exact c5 | omega) [mR900, mR901, mR905, mR906, mR907, mR908, mR909, mR921, mR924, mR925, mR929, mR930, mR931, mR932, mR934, mR935, mR936, mR940, mR949, mR950, mR951, ml_at, ml_names, ml_sort, ml_trayMany, ml_trays, ml_tape, ml_text, ml_opened, ml_now, ml_lies, ml_moveKind, ml_moveOne, ml_moveTwo, ml_moveThird, ml_far, ml_come, ml_good, ml_way, ml_rounds, ml_told0, ml_endAt, ms_at, ms_names, ms_sort, ms_trayMany, ms_trays, ms_tape, ms_text, ms_opened, ms_now, ms_lies, ms_moveKind, ms_moveOne, ms_moveTwo, ms_moveThird, ms_far, ms_come, ms_good, ms_way, ms_rounds, ms_told0, ms_endAt, mgI, mgL, mpI, mpL, mpZ, mvc, bnd2_s, bind_s, rz, lI, mI_eq, nI_add, pk_mul, nlt, nle, neq, nI_mI, mI_nI, nltm, mltn, nsub, zremN, zdivN, r937]
end
