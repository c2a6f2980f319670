set_option maxRecDepth 100000
section
variable {x m t : Nat} {σ τ : ZT} {T : Nat → Int32} {B P O : Nat → Nat}
theorem q_leastBy (h : SB x m σ t T B P O) {K : Nat} (hK : BE (msM T (mOt m σ)) (enc T (nowS T)) K) (wh : Nat) (hwh : wh = 1 ∨ wh = 2) : ∃ r τ F, f_X9_leastBy m (nI wh) σ = some (oI r, τ) ∧ FR m 933 938 9 17 σ τ ∧ RI (mwM T (mOt m σ) wh) (enc T (nowS T)) (bfsK (msM T (mOt m σ)) (b0 (enc T (nowS T))) K).2 F (fun _ => False) ∧ MinD (fun c => c ∈ (bfsK (msM T (mOt m σ)) (b0 (enc T (nowS T))) K).2) F (dn T) r := by
  have hT := h.2.2.2.2.2.1
  have hS := h.2.2.2.2.2.2.1
  have hl := h.mlen
  have hm : MInv m σ := h.2.2.2.1
  have eT : zAI σ (m + 1) = T := h.2.2.2.2.1
  have hV := VM_enc hT hS
  have hcm := Cl_M hT (mOt m σ)
  obtain ⟨τ1, a1, C1⟩ := h.mall hK
  have hB := (bfsK_inv hcm hV K).1
  have hs0 := (BE.start hcm hV K).1
  have hcls := fun {c} (hc : c ∈ (bfsK (msM T (mOt m σ)) (b0 (enc T (nowS T))) K).2) => @BE.closed (VM T) 129600 (msM T (mOt m σ)) hcm (enc T (nowS T)) K hV hK c hc
  generalize bfsK (msM T (mOt m σ)) (b0 (enc T (nowS T))) K = s at *
  generalize enc T (nowS T) = c0 at *
  have hBl := hB.len
  have hc0 := List.mem_of_getElem? hs0
  have hLV : ∀ c, c ∈ s.2 → VM T c := fun c hc => (hB.2.2.1 c hc).1
  have hnd := hB.1
  have h0 : ∀ j c, s.2[j]? = some c → (c = c0 ↔ j = 0) := by
    intro j c hj
    constructor
    · intro e
      subst e
      obtain ⟨l1, e1⟩ := List.getElem?_eq_some_iff.mp hj
      exact (List.getElem?_inj l1 hnd).mp (hj.trans hs0.symm)
    · intro e
      subst e
      rw [hs0] at hj
      cases hj
      rfl
  subst eT
  -- the start costs nothing, all else is not known
  have k1 := loop_upI (body := fun y : (Int32 × ZT) => f_X9_leastBy_L6 m (nI wh) y.1 y.2) (L := s.2) (P := fun n τ => CM m σ τ ∧ zI τ 937 m = nI s.2.length ∧ (∀ i c, s.2[i]? = some c → zAI τ (m + 16) i = nI c) ∧ ∀ j c, j < n → s.2[j]? = some c → zAI τ (m + 15) c = oI (upO (fun _ => none) c0 (some 0) c) ∧ zAI τ (m + 17) c = bI (decide (c = c0))) (fun j c hj τ hP => ?_) (fun τ hP => ?_) τ1 ⟨C1.cm, C1.2.2.2.1, C1.2.2.2.2.2, fun j c hj => absurd hj (Nat.not_lt_zero j)⟩
  · obtain ⟨τ2, b1, c1, c2, c3, c4⟩ := k1
    have Q2 : QM m σ s.2 (upO (fun _ => none) c0 (some 0)) (fun c => decide (c = c0)) τ2 := ⟨c1, c2, c3, fun c hc => by
      obtain ⟨j, hj⟩ := List.mem_iff_getElem?.mp hc
      exact (c4 j c (List.getElem?_eq_some_iff.mp hj).1 hj).1, fun c hc => by
      obtain ⟨j, hj⟩ := List.mem_iff_getElem?.mp hc
      exact (c4 j c (List.getElem?_eq_some_iff.mp hj).1 hj).2⟩
    have R2 : RI (mwM (zAI σ (m + 1)) (mOt m σ) wh) c0 s.2 (upO (fun _ => none) c0 (some 0)) (fun y => (fun c => decide (c = c0)) y = true) := by
      have e : (fun y => (fun c => decide (c = c0)) y = true) = (fun y => y = c0) := by
        funext y
        simp
      rw [e]
      exact RI.start hc0
    have k2 := loop_gh (body := fun y : (Int32 × ZT) => f_X9_leastBy_L62 m (nI wh) y.1 y.2) (fun (g : (Nat → Option Nat) × (Nat → Bool) × Bool) (y : Int32 × ZT) => y.1 = bI g.2.2 ∧ QM m σ s.2 g.1 g.2.1 y.2 ∧ RI (mwM (zAI σ (m + 1)) (mOt m σ) wh) c0 s.2 g.1 (fun y => g.2.1 y = true) ∧ (g.2.2 = false → ∀ y, g.2.1 y = false)) (fun g => 2 * cmu g.1 s.2 + (if g.2.2 = true then 1 else 0)) (fun τ => ∃ F wt, QM m σ s.2 F wt τ ∧ RI (mwM (zAI σ (m + 1)) (mOt m σ) wh) c0 s.2 F (fun _ => False)) (fun g y hI => ?_) (upO (fun _ => none) c0 (some 0), fun c => decide (c = c0), true) (nI 1, τ2) ⟨rfl, Q2, R2, fun h => by cases h⟩
    · obtain ⟨τ3, d1, F, wt, Q3, R3⟩ := k2
      have k3 := loop_upN (body := fun y : (Int32 × Int32 × ZT) => f_X9_leastBy_L130 m y.1 y.2.1 y.2.2) s.2.length oI (P := fun k b τ => QM m σ s.2 F wt τ ∧ MinD (fun c => ∃ j, j < k ∧ s.2[j]? = some c) F (dn (zAI σ (m + 1))) b ∧ ∀ u, b = some u → u ≤ 25660602) (fun k hk b τ hP => ?_) (fun b τ hP => ?_) none τ3 ⟨Q3, fun c hc => by obtain ⟨j, hj, -⟩ := hc; exact absurd hj (Nat.not_lt_zero j), fun u hu => by cases hu⟩
      · obtain ⟨r, τ4, e1, Q4, e2, e3⟩ := k3
        refine ⟨r, τ4, F, ?_, Q4.1.1, R3, e2.congr (fun y => ?_)⟩
        · have e1 : loopC (fun y : (Int32 × Int32 × ZT) => f_X9_leastBy_L130 m y.1 y.2.1 y.2.2) (mI, nI 0, τ3) = some (oI r, τ4) := e1
          unfold f_X9_leastBy
          simp only [mvc hm, a1, bind_s, lI, b1, d1, mI_eq, e1]
        · constructor
          · intro hy
            obtain ⟨j, hj⟩ := List.mem_iff_getElem?.mp hy
            exact ⟨j, (List.getElem?_eq_some_iff.mp hj).1, hj⟩
          · rintro ⟨j, -, hj⟩
            exact List.mem_of_getElem? hj
      · obtain ⟨Q, hM, hb⟩ := hP
        obtain ⟨i1, i2, i3⟩ := Q.1.tt hm
        obtain ⟨c, hkc⟩ : ∃ c, s.2[k]? = some c := ⟨_, List.getElem?_eq_getElem hk⟩
        have hcm := List.mem_of_getElem? hkc
        have hcl := VM_lt hT (hLV c hcm)
        have rc := Q.2.2.1 k c hkc
        have rf := Q.2.2.2.1 c hcm
        have r937 := Q.2.1
        have hS : ∀ y, (∃ j, j < k + 1 ∧ s.2[j]? = some y) ↔ ((∃ j, j < k ∧ s.2[j]? = some y) ∨ y = c) := by
          intro y
          constructor
          · rintro ⟨j, h1, h2⟩
            by_cases e : j = k
            · right
              subst e
              rw [hkc] at h2
              cases h2
              rfl
            · left; exact ⟨j, by omega, h2⟩
          · rintro (⟨j, h1, h2⟩ | e)
            · exact ⟨j, by omega, h2⟩
            · subst e; exact ⟨k, by omega, hkc⟩
        obtain ⟨y, f1⟩ := cm_done Q.1 hm hT (hLV c hcm)
        have Q2 := Q.NL y
        have j1 : MInv m (NL m τ y) := i1
        have rc2 := Q2.2.2.1 k c hkc
        have rf2 := Q2.2.2.2.1 c hcm
        show ∃ b' τ', f_X9_leastBy_L130 m (oI b) (nI k) τ = some (.inl (oI b', nI (k + 1), τ')) ∧ _
        unfold f_X9_leastBy_L130 f_X9_leastBy_J176_130 f_X9_leastBy_J203_130
        cases hF : F c with
        | none =>
          rw [hF] at rf
          have rf : zAI τ (m + 15) c = mI := rf
          refine ⟨b, τ, ?_, Q, hM.keep hS (fun _ u hu => by rw [hF] at hu; cases hu), hb⟩
          simp (disch := first | exact i1 | omega) [mR900, mR901, mR905, mR906, mR907, mR908, mR909, mR921, mR924, mR925, mR929, mR930, mR931, mR932, mR934, mR935, mR936, mR940, mR949, mR950, mR951, ml_at, ml_names, ml_sort, ml_trayMany, ml_trays, ml_tape, ml_text, ml_opened, ml_now, ml_lies, ml_moveKind, ml_moveOne, ml_moveTwo, ml_moveThird, ml_far, ml_come, ml_good, ml_way, ml_rounds, ml_told0, ml_endAt, ms_at, ms_names, ms_sort, ms_trayMany, ms_trays, ms_tape, ms_text, ms_opened, ms_now, ms_lies, ms_moveKind, ms_moveOne, ms_moveTwo, ms_moveThird, ms_far, ms_come, ms_good, ms_way, ms_rounds, ms_told0, ms_endAt, mgI, mgL, mpI, mpL, mpZ, mvc, bnd2_s, bind_s, rz, lI, mI_eq, nI_add, pk_mul, nlt, nle, neq, nI_mI, mI_nI, nltm, mltn, nsub, zremN, zdivN, r937, hk, rc, rf]
        | some u =>
          have hub := R3.1.bd hBl hcm hF
          rw [hF] at rf rf2
          have rf : zAI τ (m + 15) c = nI u := rf
          have rf2 : zAI (NL m τ y) (m + 15) c = nI u := rf2
          cases b with
          | none =>
            cases hd : dn (zAI σ (m + 1)) c with
            | false =>
              rw [hd] at f1
              have f1 : f_X9_isDoneAt m (nI c) τ = some (nI 0, NL m τ y) := f1
              refine ⟨none, _, ?_, Q2, hM.keep hS (fun hD => by rw [hd] at hD; cases hD), hb⟩
              simp (disch := first | exact i1 | exact j1 | omega) [mR900, mR901, mR905, mR906, mR907, mR908, mR909, mR921, mR924, mR925, mR929, mR930, mR931, mR932, mR934, mR935, mR936, mR940, mR949, mR950, mR951, ml_at, ml_names, ml_sort, ml_trayMany, ml_trays, ml_tape, ml_text, ml_opened, ml_now, ml_lies, ml_moveKind, ml_moveOne, ml_moveTwo, ml_moveThird, ml_far, ml_come, ml_good, ml_way, ml_rounds, ml_told0, ml_endAt, ms_at, ms_names, ms_sort, ms_trayMany, ms_trays, ms_tape, ms_text, ms_opened, ms_now, ms_lies, ms_moveKind, ms_moveOne, ms_moveTwo, ms_moveThird, ms_far, ms_come, ms_good, ms_way, ms_rounds, ms_told0, ms_endAt, mgI, mgL, mpI, mpL, mpZ, mvc, bnd2_s, bind_s, rz, lI, mI_eq, nI_add, pk_mul, nlt, nle, neq, nI_mI, mI_nI, nltm, mltn, nsub, zremN, zdivN, r937, hk, rc, rf, oI, f1]
            | true =>
              rw [hd] at f1
              have f1 : f_X9_isDoneAt m (nI c) τ = some (nI 1, NL m τ y) := f1
              refine ⟨some u, _, ?_, Q2, hM.take hS hd hF (fun v hv => by cases hv), fun w hw => by cases hw; exact hub⟩
              simp (disch := first | exact i1 | exact j1 | omega) [mR900, mR901, mR905, mR906, mR907, mR908, mR909, mR921, mR924, mR925, mR929, mR930, mR931, mR932, mR934, mR935, mR936, mR940, mR949, mR950, mR951, ml_at, ml_names, ml_sort, ml_trayMany, ml_trays, ml_tape, ml_text, ml_opened, ml_now, ml_lies, ml_moveKind, ml_moveOne, ml_moveTwo, ml_moveThird, ml_far, ml_come, ml_good, ml_way, ml_rounds, ml_told0, ml_endAt, ms_at, ms_names, ms_sort, ms_trayMany, ms_trays, ms_tape, ms_text, ms_opened, ms_now, ms_lies, ms_moveKind, ms_moveOne, ms_moveTwo, ms_moveThird, ms_far, ms_come, ms_good, ms_way, ms_rounds, ms_told0, ms_endAt, mgI, mgL, mpI, mpL, mpZ, mvc, bnd2_s, bind_s, rz, lI, mI_eq, nI_add, pk_mul, nlt, nle, neq, nI_mI, mI_nI, nltm, mltn, nsub, zremN, zdivN, r937, hk, rc, rf, rc2, rf2, oI, f1]
          | some b =>
            have hbb := hb b rfl
            by_cases hz : u < b
            · cases hd : dn (zAI σ (m + 1)) c with
              | false =>
                rw [hd] at f1
                have f1 : f_X9_isDoneAt m (nI c) τ = some (nI 0, NL m τ y) := f1
                refine ⟨some b, _, ?_, Q2, hM.keep hS (fun hD => by rw [hd] at hD; cases hD), hb⟩
                simp (disch := first | exact i1 | exact j1 | omega) [mR900, mR901, mR905, mR906, mR907, mR908, mR909, mR921, mR924, mR925, mR929, mR930, mR931, mR932, mR934, mR935, mR936, mR940, mR949, mR950, mR951, ml_at, ml_names, ml_sort, ml_trayMany, ml_trays, ml_tape, ml_text, ml_opened, ml_now, ml_lies, ml_moveKind, ml_moveOne, ml_moveTwo, ml_moveThird, ml_far, ml_come, ml_good, ml_way, ml_rounds, ml_told0, ml_endAt, ms_at, ms_names, ms_sort, ms_trayMany, ms_trays, ms_tape, ms_text, ms_opened, ms_now, ms_lies, ms_moveKind, ms_moveOne, ms_moveTwo, ms_moveThird, ms_far, ms_come, ms_good, ms_way, ms_rounds, ms_told0, ms_endAt, mgI, mgL, mpI, mpL, mpZ, mvc, bnd2_s, bind_s, rz, lI, mI_eq, nI_add, pk_mul, nlt, nle, neq, nI_mI, mI_nI, nltm, mltn, nsub, zremN, zdivN, r937, hk, rc, rf, oI, f1, hz]
              | true =>
                rw [hd] at f1
                have f1 : f_X9_isDoneAt m (nI c) τ = some (nI 1, NL m τ y) := f1
                refine ⟨some u, _, ?_, Q2, hM.take hS hd hF (fun v hv => by cases hv; exact hz), fun w hw => by cases hw; exact hub⟩
                simp (disch := first | exact i1 | exact j1 | omega) [mR900, mR901, mR905, mR906, mR907, mR908, mR909, mR921, mR924, mR925, mR929, mR930, mR931, mR932, mR934, mR935, mR936, mR940, mR949, mR950, mR951, ml_at, ml_names, ml_sort, ml_trayMany, ml_trays, ml_tape, ml_text, ml_opened, ml_now, ml_lies, ml_moveKind, ml_moveOne, ml_moveTwo, ml_moveThird, ml_far, ml_come, ml_good, ml_way, ml_rounds, ml_told0, ml_endAt, ms_at, ms_names, ms_sort, ms_trayMany, ms_trays, ms_tape, ms_text, ms_opened, ms_now, ms_lies, ms_moveKind, ms_moveOne, ms_moveTwo, ms_moveThird, ms_far, ms_come, ms_good, ms_way, ms_rounds, ms_told0, ms_endAt, mgI, mgL, mpI, mpL, mpZ, mvc, bnd2_s, bind_s, rz, lI, mI_eq, nI_add, pk_mul, nlt, nle, neq, nI_mI, mI_nI, nltm, mltn, nsub, zremN, zdivN, r937, hk, rc, rf, rc2, rf2, oI, f1, hz]
            · refine ⟨some b, τ, ?_, Q, hM.keep hS (fun _ w hw => ⟨b, rfl, by rw [hF] at hw; cases hw; omega⟩), hb⟩
              simp (disch := first | exact i1 | exact j1 | omega) [mR900, mR901, mR905, mR906, mR907, mR908, mR909, mR921, mR924, mR925, mR929, mR930, mR931, mR932, mR934, mR935, mR936, mR940, mR949, mR950, mR951, ml_at, ml_names, ml_sort, ml_trayMany, ml_trays, ml_tape, ml_text, ml_opened, ml_now, ml_lies, ml_moveKind, ml_moveOne, ml_moveTwo, ml_moveThird, ml_far, ml_come, ml_good, ml_way, ml_rounds, ml_told0, ml_endAt, ms_at, ms_names, ms_sort, ms_trayMany, ms_trays, ms_tape, ms_text, ms_opened, ms_now, ms_lies, ms_moveKind, ms_moveOne, ms_moveTwo, ms_moveThird, ms_far, ms_come, ms_good, ms_way, ms_rounds, ms_told0, ms_endAt, mgI, mgL, mpI, mpL, mpZ, mvc, bnd2_s, bind_s, rz, lI, mI_eq, nI_add, pk_mul, nlt, nle, neq, nI_mI, mI_nI, nltm, mltn, nsub, zremN, zdivN, r937, hk, rc, rf, oI, hz]
      · obtain ⟨Q, hM, hb⟩ := hP
        have i1 : MInv m τ := (Q.1.tt hm).1
        have r937 := Q.2.1
        show f_X9_leastBy_L130 m (oI b) (nI _) τ = _
        unfold f_X9_leastBy_L130
        simp (disch := first | exact i1 | omega) [mR900, mR901, mR905, mR906, mR907, mR908, mR909, mR921, mR924, mR925, mR929, mR930, mR931, mR932, mR934, mR935, mR936, mR940, mR949, mR950, mR951, ml_at, ml_names, ml_sort, ml_trayMany, ml_trays, ml_tape, ml_text, ml_opened, ml_now, ml_lies, ml_moveKind, ml_moveOne, ml_moveTwo, ml_moveThird, ml_far, ml_come, ml_good, ml_way, ml_rounds, ml_told0, ml_endAt, ms_at, ms_names, ms_sort, ms_trayMany, ms_trays, ms_tape, ms_text, ms_opened, ms_now, ms_lies, ms_moveKind, ms_moveOne, ms_moveTwo, ms_moveThird, ms_far, ms_come, ms_good, ms_way, ms_rounds, ms_told0, ms_endAt, mgI, mgL, mpI, mpL, mpZ, mvc, bnd2_s, bind_s, rz, lI, mI_eq, nI_add, pk_mul, nlt, nle, neq, nI_mI, mI_nI, nltm, mltn, nsub, zremN, zdivN, r937]
    · obtain ⟨F, wt, ch⟩ := g
      obtain ⟨i, τ⟩ := y
      obtain ⟨e1, Q, R, hch⟩ := hI
      have e1 : i = bI ch := e1
      have Q : QM m σ s.2 F wt τ := Q
      have R : RI (mwM (zAI σ (m + 1)) (mOt m σ) wh) c0 s.2 F (fun y => wt y = true) := R
      subst e1
      show ∃ y, f_X9_leastBy_L62 m (nI wh) (bI ch) τ = some y ∧ _
      unfold f_X9_leastBy_L62
      cases ch with
      | false =>
        have hw : ∀ y, wt y = false := hch rfl
        exact ⟨.inr τ, rfl, F, wt, Q, R.1, fun y hy _ => R.2.1 y hy (by show ¬ wt y = true; rw [hw y]; decide), fun y hy => hy.elim⟩
      | true =>
        have k3 := loop_upN (body := fun y : (Int32 × Int32 × ZT) => f_X9_leastBy_L70 m (nI wh) y.1 y.2.1 y.2.2) s.2.length (fun b : (Nat → Option Nat) × (Nat → Bool) × Bool => bI b.2.2) (P := fun k b τ => QM m σ s.2 b.1 b.2.1 τ ∧ RI (mwM (zAI σ (m + 1)) (mOt m σ) wh) c0 s.2 b.1 (fun y => b.2.1 y = true) ∧ (b.2.2 = true → cmu b.1 s.2 < cmu F s.2) ∧ (b.2.2 = false → b.1 = F ∧ ∀ y, b.2.1 y = true → ∀ j, j < k → s.2[j]? ≠ some y)) (fun k hk b τ hP => ?_) (fun b τ hP => ?_) (F, wt, false) τ ⟨Q, R, fun h => (by cases h), fun _ => ⟨rfl, fun y _ j hj => absurd hj (Nat.not_lt_zero j)⟩⟩
        · obtain ⟨b', τ', g1, Q', R', g2, g3⟩ := k3
          refine ⟨.inl (bI b'.2.2, τ'), ?_, b', ⟨rfl, Q', R', fun hf y => ?_⟩, ?_⟩
          · have hne : ¬ bI true = 0 := by decide
            rw [if_neg hne]
            have g1 : loopC (fun y : (Int32 × Int32 × ZT) => f_X9_leastBy_L70 m (nI wh) y.1 y.2.1 y.2.2) (nI 0, nI 0, τ) = some (bI b'.2.2, τ') := g1
            simp only [lI, g1, bind_s]
          · cases hy : b'.2.1 y with
            | false => rfl
            | true =>
              exfalso
              obtain ⟨j, hj⟩ := List.mem_iff_getElem?.mp (R'.2.2 y hy).1
              exact (g3 hf).2 y hy j (List.getElem?_eq_some_iff.mp hj).1 hj
          · show 2 * cmu b'.1 s.2 + (if b'.2.2 = true then 1 else 0) < 2 * cmu F s.2 + (if true = true then 1 else 0)
            rw [if_pos rfl]
            cases hb : b'.2.2 with
            | true =>
              have := g2 hb
              simp
              omega
            | false =>
              rw [(g3 hb).1]
              simp
        · obtain ⟨F1, w1, le⟩ := b
          obtain ⟨Q, R, p1, p2⟩ := hP
          have Q : QM m σ s.2 F1 w1 τ := Q
          have R : RI (mwM (zAI σ (m + 1)) (mOt m σ) wh) c0 s.2 F1 (fun y => w1 y = true) := R
          obtain ⟨i1, i2, i3⟩ := Q.1.tt hm
          obtain ⟨c, hkc⟩ : ∃ c, s.2[k]? = some c := ⟨_, List.getElem?_eq_getElem hk⟩
          have hcm := List.mem_of_getElem? hkc
          have hcl := VM_lt hT (hLV c hcm)
          have rc := Q.2.2.1 k c hkc
          have rg := Q.2.2.2.2 c hcm
          have r937 := Q.2.1
          show ∃ (b' : (Nat → Option Nat) × (Nat → Bool) × Bool) (τ' : ZT), f_X9_leastBy_L70 m (nI wh) (bI le) (nI k) τ = some (.inl (bI b'.2.2, nI (k + 1), τ')) ∧ _
          unfold f_X9_leastBy_L70 f_X9_leastBy_J110_70 f_X9_leastBy_J115_70 f_X9_leastBy_J116_70
          cases hw : w1 c with
          | false =>
            rw [hw] at rg
            have rg : zAI τ (m + 17) c = nI 0 := rg
            refine ⟨(F1, w1, le), τ, ?_, Q, R, p1, fun hle => ⟨(p2 hle).1, fun y hy j hj => ?_⟩⟩
            · simp (disch := first | exact i1 | omega) [mR900, mR901, mR905, mR906, mR907, mR908, mR909, mR921, mR924, mR925, mR929, mR930, mR931, mR932, mR934, mR935, mR936, mR940, mR949, mR950, mR951, ml_at, ml_names, ml_sort, ml_trayMany, ml_trays, ml_tape, ml_text, ml_opened, ml_now, ml_lies, ml_moveKind, ml_moveOne, ml_moveTwo, ml_moveThird, ml_far, ml_come, ml_good, ml_way, ml_rounds, ml_told0, ml_endAt, ms_at, ms_names, ms_sort, ms_trayMany, ms_trays, ms_tape, ms_text, ms_opened, ms_now, ms_lies, ms_moveKind, ms_moveOne, ms_moveTwo, ms_moveThird, ms_far, ms_come, ms_good, ms_way, ms_rounds, ms_told0, ms_endAt, mgI, mgL, mpI, mpL, mpZ, mvc, bnd2_s, bind_s, rz, lI, mI_eq, nI_add, pk_mul, nlt, nle, neq, nI_mI, mI_nI, nltm, mltn, nsub, zremN, zdivN, r937, hk, rc, rg]
            · by_cases e : j = k
              · subst e
                rw [hkc]
                intro e2
                cases e2
                have hy : w1 c = true := hy
                rw [hw] at hy
                cases hy
              · exact (p2 hle).2 y hy j (by omega)
          | true =>
            rw [hw] at rg
            have rg : zAI τ (m + 17) c = nI 1 := rg
            obtain ⟨F', wt', le', τ', g1, Q', R', g2, g3⟩ := q_lessens hm hT hl wh hwh hBl hLV (fun c hc v hv c' e => hcls hc (List.mem_map.mpr ⟨v, hv, rfl⟩) e) hcm hw Q R
            refine ⟨(F', wt', le' || le), τ', ?_, Q', R', fun hle => ?_, fun hle => ?_⟩
            · cases le' <;> cases le <;> simp (disch := first | exact i1 | omega) [mR900, mR901, mR905, mR906, mR907, mR908, mR909, mR921, mR924, mR925, mR929, mR930, mR931, mR932, mR934, mR935, mR936, mR940, mR949, mR950, mR951, ml_at, ml_names, ml_sort, ml_trayMany, ml_trays, ml_tape, ml_text, ml_opened, ml_now, ml_lies, ml_moveKind, ml_moveOne, ml_moveTwo, ml_moveThird, ml_far, ml_come, ml_good, ml_way, ml_rounds, ml_told0, ml_endAt, ms_at, ms_names, ms_sort, ms_trayMany, ms_trays, ms_tape, ms_text, ms_opened, ms_now, ms_lies, ms_moveKind, ms_moveOne, ms_moveTwo, ms_moveThird, ms_far, ms_come, ms_good, ms_way, ms_rounds, ms_told0, ms_endAt, mgI, mgL, mpI, mpL, mpZ, mvc, bnd2_s, bind_s, rz, lI, mI_eq, nI_add, pk_mul, nlt, nle, neq, nI_mI, mI_nI, nltm, mltn, nsub, zremN, zdivN, r937, hk, rc, rg, g1, bI]
            · show cmu F' s.2 < cmu F s.2
              cases hle1 : le with
              | true =>
                have q1 : cmu F1 s.2 < cmu F s.2 := p1 hle1
                cases hle2 : le' with
                | true => exact Nat.lt_trans (g2 hle2) q1
                | false => rw [(g3 hle2).1]; exact q1
              | false =>
                have q1 : F1 = F := (p2 hle1).1
                have hle2 : le' = true := by
                  have hle : (le' || le) = true := hle
                  rw [hle1, Bool.or_false] at hle
                  exact hle
                have := g2 hle2
                rw [q1] at this
                exact this
            · have hle : (le' || le) = false := hle
              obtain ⟨h1, h2⟩ := Bool.or_eq_false_iff.mp hle
              obtain ⟨g4, g5⟩ := g3 h1
              have q1 : F1 = F := (p2 h2).1
              refine ⟨by show F' = F; rw [g4, q1], fun y hy j hj => ?_⟩
              have hy : wt' y = true := hy
              rw [g5] at hy
              by_cases ey : y = c
              · rw [ey, upB_at] at hy; cases hy
              · rw [upB_ne ey] at hy
                by_cases e : j = k
                · subst e
                  rw [hkc]
                  intro e2
                  cases e2
                  exact absurd rfl ey
                · exact (p2 h2).2 y hy j (by omega)
        · obtain ⟨F1, w1, le⟩ := b
          have i1 : MInv m τ := (hP.1.1.tt hm).1
          have r937 := hP.1.2.1
          show f_X9_leastBy_L70 m (nI wh) (bI le) (nI _) τ = _
          unfold f_X9_leastBy_L70
          simp (disch := first | exact i1 | omega) [mR900, mR901, mR905, mR906, mR907, mR908, mR909, mR921, mR924, mR925, mR929, mR930, mR931, mR932, mR934, mR935, mR936, mR940, mR949, mR950, mR951, ml_at, ml_names, ml_sort, ml_trayMany, ml_trays, ml_tape, ml_text, ml_opened, ml_now, ml_lies, ml_moveKind, ml_moveOne, ml_moveTwo, ml_moveThird, ml_far, ml_come, ml_good, ml_way, ml_rounds, ml_told0, ml_endAt, ms_at, ms_names, ms_sort, ms_trayMany, ms_trays, ms_tape, ms_text, ms_opened, ms_now, ms_lies, ms_moveKind, ms_moveOne, ms_moveTwo, ms_moveThird, ms_far, ms_come, ms_good, ms_way, ms_rounds, ms_told0, ms_endAt, mgI, mgL, mpI, mpL, mpZ, mvc, bnd2_s, bind_s, rz, lI, mI_eq, nI_add, pk_mul, nlt, nle, neq, nI_mI, mI_nI, nltm, mltn, nsub, zremN, zdivN, r937]
  · obtain ⟨c1, c2, c3, c4⟩ := hP
    obtain ⟨i1, i2, i3⟩ := c1.tt hm
    have hcm := List.mem_of_getElem? hj
    have hcl := VM_lt hT (hLV c hcm)
    have hjl := (List.getElem?_eq_some_iff.mp hj).1
    have rc := c3 j c hj
    have e0 := h0 j c hj
    -- what is laid
    have val : (if j = 0 then nI 0 else mI) = oI (upO (fun _ => none) c0 (some 0) c) := by
      by_cases e : j = 0
      · rw [if_pos e, e0.mpr e, upO_at]; rfl
      · rw [if_neg e, upO_ne (fun hh => e (e0.mp hh))]; rfl
    have val2 : (if j = 0 then nI 1 else nI 0) = bI (decide (c = c0)) := by
      by_cases e : j = 0
      · rw [if_pos e, decide_eq_true (e0.mpr e)]; rfl
      · rw [if_neg e, decide_eq_false (fun hh => e (e0.mp hh))]; rfl
    have j1 : MInv m (sAI τ (m + 15) c (oI (upO (fun _ => none) c0 (some 0) c))) := i1
    have rc2 : zAI (sAI τ (m + 15) c (oI (upO (fun _ => none) c0 (some 0) c))) (m + 16) j = nI c := by
      rw [r_AI, if_neg (by omega)]; exact rc
    have hst : stZ (m + 17) (nI c) (bI (decide (c = c0))) (sAI τ (m + 15) c (oI (upO (fun _ => none) c0 (some 0) c))) = some (sAI (sAI τ (m + 15) c (oI (upO (fun _ => none) c0 (some 0) c))) (m + 17) c (bI (decide (c = c0)))) := ms_good j1 hcl (bI_01 _)
    refine ⟨_, ?_, (c1.ai (k := 15) (by omega) c (oI (upO (fun _ => none) c0 (some 0) c))).ai (k := 17) (by omega) c (bI (decide (c = c0))), c2, fun i d hi => ?_, fun i d hi hd => ?_⟩
    · show f_X9_leastBy_L6 m (nI wh) (nI j) τ = _
      unfold f_X9_leastBy_L6 f_X9_leastBy_J33_6 f_X9_leastBy_J53_6
      by_cases e : j = 0
      · rw [if_pos e] at val val2
        rw [← val] at rc2 hst j1 ⊢
        rw [← val2] at hst ⊢
        subst e
        simp (disch := first | exact i1 | exact j1 | omega) [mR900, mR901, mR905, mR906, mR907, mR908, mR909, mR921, mR924, mR925, mR929, mR930, mR931, mR932, mR934, mR935, mR936, mR940, mR949, mR950, mR951, ml_at, ml_names, ml_sort, ml_trayMany, ml_trays, ml_tape, ml_text, ml_opened, ml_now, ml_lies, ml_moveKind, ml_moveOne, ml_moveTwo, ml_moveThird, ml_far, ml_come, ml_good, ml_way, ml_rounds, ml_told0, ml_endAt, ms_at, ms_names, ms_sort, ms_trayMany, ms_trays, ms_tape, ms_text, ms_opened, ms_now, ms_lies, ms_moveKind, ms_moveOne, ms_moveTwo, ms_moveThird, ms_far, ms_come, ms_good, ms_way, ms_rounds, ms_told0, ms_endAt, mgI, mgL, mpI, mpL, mpZ, mvc, bnd2_s, bind_s, rz, lI, mI_eq, nI_add, pk_mul, nlt, nle, neq, nI_mI, mI_nI, nltm, mltn, nsub, zremN, zdivN, c2, hjl, rc, rc2, hst]
      · rw [if_neg e] at val val2
        rw [← val] at rc2 hst j1 ⊢
        rw [← val2] at hst ⊢
        simp (disch := first | exact i1 | exact j1 | omega) [mR900, mR901, mR905, mR906, mR907, mR908, mR909, mR921, mR924, mR925, mR929, mR930, mR931, mR932, mR934, mR935, mR936, mR940, mR949, mR950, mR951, ml_at, ml_names, ml_sort, ml_trayMany, ml_trays, ml_tape, ml_text, ml_opened, ml_now, ml_lies, ml_moveKind, ml_moveOne, ml_moveTwo, ml_moveThird, ml_far, ml_come, ml_good, ml_way, ml_rounds, ml_told0, ml_endAt, ms_at, ms_names, ms_sort, ms_trayMany, ms_trays, ms_tape, ms_text, ms_opened, ms_now, ms_lies, ms_moveKind, ms_moveOne, ms_moveTwo, ms_moveThird, ms_far, ms_come, ms_good, ms_way, ms_rounds, ms_told0, ms_endAt, mgI, mgL, mpI, mpL, mpZ, mvc, bnd2_s, bind_s, rz, lI, mI_eq, nI_add, pk_mul, nlt, nle, neq, nI_mI, mI_nI, nltm, mltn, nsub, zremN, zdivN, c2, hjl, rc, rc2, hst, e]
    · rw [r_AI, if_neg (by omega), r_AI, if_neg (by omega)]
      exact c3 i d hi
    · rw [r_AI, if_neg (by omega), r_AI, r_AI]
      by_cases e : d = c
      · rw [e, if_pos ⟨rfl, rfl⟩, if_pos ⟨rfl, rfl⟩]
        exact ⟨rfl, rfl⟩
      · rw [if_neg (fun hh => e hh.2), if_neg (fun hh => e hh.2), r_AI, if_neg (by omega)]
        refine c4 i d ?_ hd
        by_cases eij : i = j
        · subst eij
          rw [hj] at hd
          cases hd
          exact absurd rfl e
        · omega
  · obtain ⟨c1, c2, c3, c4⟩ := hP
    have i1 : MInv m τ := (c1.tt hm).1
    show f_X9_leastBy_L6 m (nI wh) (nI _) τ = _
    unfold f_X9_leastBy_L6
    simp (disch := first | exact i1 | omega) [mR900, mR901, mR905, mR906, mR907, mR908, mR909, mR921, mR924, mR925, mR929, mR930, mR931, mR932, mR934, mR935, mR936, mR940, mR949, mR950, mR951, ml_at, ml_names, ml_sort, ml_trayMany, ml_trays, ml_tape, ml_text, ml_opened, ml_now, ml_lies, ml_moveKind, ml_moveOne, ml_moveTwo, ml_moveThird, ml_far, ml_come, ml_good, ml_way, ml_rounds, ml_told0, ml_endAt, ms_at, ms_names, ms_sort, ms_trayMany, ms_trays, ms_tape, ms_text, ms_opened, ms_now, ms_lies, ms_moveKind, ms_moveOne, ms_moveTwo, ms_moveThird, ms_far, ms_come, ms_good, ms_way, ms_rounds, ms_told0, ms_endAt, mgI, mgL, mpI, mpL, mpZ, mvc, bnd2_s, bind_s, rz, lI, mI_eq, nI_add, pk_mul, nlt, nle, neq, nI_mI, mI_nI, nltm, mltn, nsub, zremN, zdivN, c2]
theorem mwM_eq {w w' : Ot} (hw : ∀ v, v ∈ mvs T → gM T w v = gM T w' v) (wh : Nat) : mwM T w wh = mwM T w' wh := by
  unfold mwM
  exact List.map_congr_left fun v hv => by rw [hw v hv]
theorem p_in02 (i : Int32) (σ : ZT) : f_X0_isIn (i.toInt64) (0 : Int64) (2 : Int64) σ = some (bI (!decide (i < nI 0) && !decide (nI 2 < i)), σ) := by
  rw [p_isIn]
  have e1 : decide (i.toInt64 < (0 : Int64)) = decide (i < nI 0) := by simp only [cmp64_lo]
  have e2 : decide ((2 : Int64) < i.toInt64) = decide (nI 2 < i) := by
    have := cmp64_hi i 2 (by decide)
    rw [show (2 : Int64) = (nI 2).toInt64 from by decide]
    simp only [this]
  rw [e1, e2]
theorem pr_least12 (h : SB x m σ t T B P O) (wh : Nat) (hwh : wh = 1 ∨ wh = 2) : Pr x m σ (f_X0_least x (nI wh)) (f_X9_least m (nI wh)) := by
  have hT := h.2.2.2.2.2.1
  have hS := h.2.2.2.2.2.2.1
  have x0 : CInv x σ := h.2.2.1.1
  have h1 := h.sq (SQ.st7 (nI 0))
  have x1 : CInv x (sI σ 7 x (nI 0)) := x0
  obtain ⟨K, hK⟩ := h1.K
  obtain ⟨r, τ, F, a1, a2, a3, a4, a5⟩ := p_leastCost h1 hK wh hwh
  have hV := VM_enc hT hS
  have xt : CInv x τ := a2.cinv x1
  have is2 : f_X0_isIn ((nI wh).toInt64) (0 : Int64) (2 : Int64) σ = some (nI 1, σ) := by
    rw [p_in02]
    rcases hwh with rfl | rfl <;> rfl
  have q1 : SQ x m (sI σ 7 x (nI 0)) (sI τ 7 x (if oI r < nI 0 then nI 6 else nI 0)) := (SQ.ofFX a2).trans (SQ.st7 _)
  have h2 := h1.sq q1
  have hgm : ∀ v, v ∈ mvs T → gM T (mOt m (sI τ 7 x (if oI r < nI 0 then nI 6 else nI 0))) v = gM T (mOt m (sI σ 7 x (nI 0))) v := by
    intro v hv
    have e := mOt_sq q1 h1
    unfold msM at e
    exact List.map_inj_left.mp e v hv
  have hK2 := hK
  rw [← mOt_sq q1 h1] at hK2
  obtain ⟨r', τ2, F', b1, b2, b3, b4⟩ := q_leastBy h2 hK2 wh hwh
  rw [mwM_eq hgm wh, mOt_sq q1 h1] at b3
  rw [mOt_sq q1 h1] at b4
  have hc0 := List.mem_of_getElem? (BE.start (Cl_M hT (mOt m (sI σ 7 x (nI 0)))) hV K).1
  have hcl : ∀ c, c ∈ (bfsK (msM T (mOt m (sI σ 7 x (nI 0)))) (b0 (enc T (nowS T))) K).2 → ∀ q, q ∈ mwM T (mOt m (sI σ 7 x (nI 0))) wh → ∀ c', q.1 c = some c' → c' ∈ (bfsK (msM T (mOt m (sI σ 7 x (nI 0)))) (b0 (enc T (nowS T))) K).2 := fun c hc q hq c' e => BE.closed (Cl_M hT (mOt m (sI σ 7 x (nI 0)))) hV hK hc (mwM_mem hq) e
  have err : r = r' := a4.uniq (fun c hc => a3.uniq b3 hc0 hcl hc) b4
  subst err
  have m2 : MInv m (sI τ 7 x (if oI r < nI 0 then nI 6 else nI 0)) := h2.2.2.2.1
  have m3 : MInv m τ2 := b2.inv m2
  have est : (if oI r = mI then nI 6 else nI 0) = (if oI r < nI 0 then nI 6 else nI 0) := by
    cases r with
    | none => rw [if_pos (show oI none = mI from rfl), if_pos (show oI none < nI 0 from mlt0)]
    | some d =>
      have := a5 d rfl
      have w1 : ¬ nI d < nI 0 := nI_pos (by omega)
      have w2 : ¬ nI d = mI := fun hh => by rw [nI_mI (by omega)] at hh; exact hh
      show (if nI d = mI then nI 6 else nI 0) = (if nI d < nI 0 then nI 6 else nI 0)
      rw [if_neg w1, if_neg w2]
  refine Pr.of2 h.1 (v := nI 0) (v' := if oI r < nI 0 then nI 6 else nI 0) (τ1 := τ) (τ2 := τ2) (R := oI r) ?_ (SQ.ofFX a2) ?_ b2
  · have hpa := p_answer xt (oI r)
    unfold f_X0_least f_X0_least_J18 f_X0_least_J46
    rcases hwh with rfl | rfl
    · have a1 : f_X0_leastCost x (nI 1) (sI σ 7 x (nI 0)) = some (oI r, τ) := a1
      simp (disch := first | exact x0 | exact x1 | exact xt | omega) [is2, bnd2_s, lI, n1n0, xp_0, xi_0, xv_0, r_II, a1, mI_eq, hpa, nlt]
    · have a1 : f_X0_leastCost x (nI 0) (sI σ 7 x (nI 0)) = some (oI r, τ) := a1
      simp (disch := first | exact x0 | exact x1 | exact xt | omega) [is2, bnd2_s, lI, n1n0, xp_0, xi_0, xv_0, r_II, a1, mI_eq, hpa, nlt, neq]
  · have hon := q_orNone m3 (oI r)
    rw [est] at hon
    unfold f_X9_least
    rcases hwh with rfl | rfl <;> simp (disch := first | exact m2 | exact m3 | omega) [mvc, b1, hon, bnd2_s, lI, nlt]
theorem pr_least (h : SB x m σ t T B P O) (i : Int32) : Pr x m σ (f_X0_least x i) (f_X9_least m i) := by
  by_cases hok : i < nI 0 ∨ nI 2 < i
  · have hin := p_in02 i σ
    have hf : (!decide (i < nI 0) && !decide (nI 2 < i)) = false := by
      rcases hok with e | e <;> simp [e]
    rw [hf] at hin
    have x0 : CInv x σ := h.2.2.1.1
    have x1 : CInv x (sI σ 7 x (nI 1)) := x0
    have m1 : MInv m (sI σ 7 x (nI 1)) := h.2.2.2.1
    refine Pr.of h.1 (R := mI) (v := nI 1) (τ1 := sI σ 7 x (nI 1)) (τ2 := sI σ 7 x (nI 1)) ?_ (FX.refl _) ?_ (FR.refl _)
    · unfold f_X0_least f_X0_least_J18
      simp (disch := first | exact x0 | exact x1 | omega) [hin, bI, bnd2_s, lI, xp_0, xi_0, r_II, mI_eq, nlt]
    · unfold f_X9_least f_X9_least_J9 f_X9_refuse
      by_cases e : i < nI 0
      · simp (disch := first | exact m1 | omega) [mvc, bnd2_s, lI, mI_eq, mpI, e]
      · have e2 : nI 2 < i := hok.resolve_left e
        simp (disch := first | exact m1 | omega) [mvc, bnd2_s, lI, mI_eq, mpI, e, e2]
  · have e1 : ¬ i < nI 0 := fun e => hok (Or.inl e)
    have e2 : ¬ nI 2 < i := fun e => hok (Or.inr e)
    obtain ⟨k, hk, rfl⟩ := nI_of2 (M := nI 2) (n := 2) (by decide) e1 (Int32.not_lt.mp e2)
    have hk3 : k = 0 ∨ k = 1 ∨ k = 2 := by omega
    rcases hk3 with rfl | rfl | rfl
    · exact pr_least0 h
    · exact pr_least12 h 1 (Or.inl rfl)
    · exact pr_least12 h 2 (Or.inr rfl)
end
