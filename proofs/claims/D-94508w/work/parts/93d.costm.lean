set_option maxRecDepth 100000
/-- the model's arrays hold costs F and those that are still to be gone through -/
def QM (m : Nat) (σ : ZT) (L : List Nat) (F : Nat → Option Nat) (wt : Nat → Bool) (τ : ZT) : Prop := CM m σ τ ∧ zI τ 937 m = nI L.length ∧ (∀ i c, L[i]? = some c → zAI τ (m + 16) i = nI c) ∧ (∀ c, c ∈ L → zAI τ (m + 15) c = oI (F c)) ∧ ∀ c, c ∈ L → zAI τ (m + 17) c = bI (wt c)
section
variable {x m t : Nat} {σ τ : ZT} {T : Nat → Int32} {B P O : Nat → Nat} {L : List Nat} {F : Nat → Option Nat} {wt : Nat → Bool}
theorem QM.NL (h : QM m σ L F wt τ) (y : St) : QM m σ L F wt (NL m τ y) := by
  obtain ⟨h1, h2, h3, h4, h5⟩ := h
  refine ⟨h1.NL y, h2, ?_, ?_, ?_⟩
  · rw [NL_ne _ (by omega) (by omega)]; exact h3
  · rw [NL_ne _ (by omega) (by omega)]; exact h4
  · rw [NL_ne _ (by omega) (by omega)]; exact h5
theorem QM.far (h : QM m σ L F wt τ) (c : Nat) (v : Option Nat) : QM m σ L (upO F c v) wt (sAI τ (m + 15) c (oI v)) := by
  obtain ⟨h1, h2, h3, h4, h5⟩ := h
  refine ⟨h1.ai (by omega) _ _, h2, ?_, fun y hy => ?_, ?_⟩
  · rw [sAI_r, zAIr_ne _ (by omega)]; exact h3
  · rw [r_AI]
    by_cases e : y = c
    · rw [e, if_pos ⟨rfl, rfl⟩, upO_at]
    · rw [if_neg (fun hh => e hh.2), upO_ne e]; exact h4 y hy
  · rw [sAI_r, zAIr_ne _ (by omega)]; exact h5
theorem QM.good (h : QM m σ L F wt τ) (c : Nat) (v : Bool) : QM m σ L F (upB wt c v) (sAI τ (m + 17) c (bI v)) := by
  obtain ⟨h1, h2, h3, h4, h5⟩ := h
  refine ⟨h1.ai (by omega) _ _, h2, ?_, ?_, fun y hy => ?_⟩
  · rw [sAI_r, zAIr_ne _ (by omega)]; exact h3
  · rw [sAI_r, zAIr_ne _ (by omega)]; exact h4
  · rw [r_AI]
    by_cases e : y = c
    · rw [e, if_pos ⟨rfl, rfl⟩, upB_at]
    · rw [if_neg (fun hh => e hh.2), upB_ne e]; exact h5 y hy
theorem q_costOf (h : MInv m τ) (hT : TW (zAI τ (m + 1))) (hL : ML m τ (mvs (zAI τ (m + 1)))) (hl : (mvs (zAI τ (m + 1))).length ≤ 92) (wh : Nat) (hwh : wh = 1 ∨ wh = 2) {j : Nat} {v : Mv} (hj : (mvs (zAI τ (m + 1)))[j]? = some v) : f_X9_costOf m (nI j) (nI wh) τ = some (nI (cst (zAI τ (m + 1)) wh v), τ) := by
  have hjl := (List.getElem?_eq_some_iff.mp hj).1
  have hmem := List.mem_of_getElem? hj
  have hW := mvs_W hmem
  obtain ⟨e1, e2, e3, e4⟩ := hL.2 j v hj
  have h8 := hT.2.2.1
  unfold f_X9_costOf f_X9_costOf_J53 f_X9_ofBridge cst
  by_cases h2 : v.1 < 2
  · obtain ⟨br, b1, b2⟩ := mvs_br hmem h2
    have h6 := (hT.2.2.2.2.2.1 br b2).1 6 (by decide)
    have h7 := (hT.2.2.2.2.2.1 br b2).1 7 (by decide)
    have h99 := (hT.2.2.2.2.2.1 br b2).2.2.2.2.2.2.2.2.2.1
    have n1 : ¬ 1 < v.1 := by omega
    rw [b1] at e4
    have e4 : zAI τ (m + 14) j = nI br := e4
    rcases hwh with rfl | rfl
    · simp (disch := first | exact h | omega) [mR900, mR901, mR905, mR906, mR907, mR908, mR909, mR921, mR924, mR925, mR929, mR930, mR931, mR932, mR934, mR935, mR936, mR940, mR949, mR950, mR951, ml_at, ml_names, ml_sort, ml_trayMany, ml_trays, ml_tape, ml_text, ml_opened, ml_now, ml_lies, ml_moveKind, ml_moveOne, ml_moveTwo, ml_moveThird, ml_far, ml_come, ml_good, ml_way, ml_rounds, ml_told0, ml_endAt, ms_at, ms_names, ms_sort, ms_trayMany, ms_trays, ms_tape, ms_text, ms_opened, ms_now, ms_lies, ms_moveKind, ms_moveOne, ms_moveTwo, ms_moveThird, ms_far, ms_come, ms_good, ms_way, ms_rounds, ms_told0, ms_endAt, mgI, mgL, mpI, mpL, mpZ, mvc, bnd2_s, bind_s, rz, e1, e4, lI, mI_eq, nI_add, pk_mul, nlt, nle, neq, nI_mI, mI_nI, nltm, mltn, nsub, zremN, zdivN, h6, b1, h2, n1]
    · simp (disch := first | exact h | omega) [mR900, mR901, mR905, mR906, mR907, mR908, mR909, mR921, mR924, mR925, mR929, mR930, mR931, mR932, mR934, mR935, mR936, mR940, mR949, mR950, mR951, ml_at, ml_names, ml_sort, ml_trayMany, ml_trays, ml_tape, ml_text, ml_opened, ml_now, ml_lies, ml_moveKind, ml_moveOne, ml_moveTwo, ml_moveThird, ml_far, ml_come, ml_good, ml_way, ml_rounds, ml_told0, ml_endAt, ms_at, ms_names, ms_sort, ms_trayMany, ms_trays, ms_tape, ms_text, ms_opened, ms_now, ms_lies, ms_moveKind, ms_moveOne, ms_moveTwo, ms_moveThird, ms_far, ms_come, ms_good, ms_way, ms_rounds, ms_told0, ms_endAt, mgI, mgL, mpI, mpL, mpZ, mvc, bnd2_s, bind_s, rz, e1, e4, lI, mI_eq, nI_add, pk_mul, nlt, nle, neq, nI_mI, mI_nI, nltm, mltn, nsub, zremN, zdivN, h7, b1, h2, n1]
  · have n1 : 1 < v.1 := by omega
    have n4 : v.1 < 4 := hW.2
    cases hb : v.2.2.2 with
    | none => simp (disch := first | exact h | omega) [mR900, mR901, mR905, mR906, mR907, mR908, mR909, mR921, mR924, mR925, mR929, mR930, mR931, mR932, mR934, mR935, mR936, mR940, mR949, mR950, mR951, ml_at, ml_names, ml_sort, ml_trayMany, ml_trays, ml_tape, ml_text, ml_opened, ml_now, ml_lies, ml_moveKind, ml_moveOne, ml_moveTwo, ml_moveThird, ml_far, ml_come, ml_good, ml_way, ml_rounds, ml_told0, ml_endAt, ms_at, ms_names, ms_sort, ms_trayMany, ms_trays, ms_tape, ms_text, ms_opened, ms_now, ms_lies, ms_moveKind, ms_moveOne, ms_moveTwo, ms_moveThird, ms_far, ms_come, ms_good, ms_way, ms_rounds, ms_told0, ms_endAt, mgI, mgL, mpI, mpL, mpZ, mvc, bnd2_s, bind_s, rz, e1, lI, mI_eq, nI_add, pk_mul, nlt, nle, neq, nI_mI, mI_nI, nltm, mltn, nsub, zremN, zdivN, n1]
    | some br => simp (disch := first | exact h | omega) [mR900, mR901, mR905, mR906, mR907, mR908, mR909, mR921, mR924, mR925, mR929, mR930, mR931, mR932, mR934, mR935, mR936, mR940, mR949, mR950, mR951, ml_at, ml_names, ml_sort, ml_trayMany, ml_trays, ml_tape, ml_text, ml_opened, ml_now, ml_lies, ml_moveKind, ml_moveOne, ml_moveTwo, ml_moveThird, ml_far, ml_come, ml_good, ml_way, ml_rounds, ml_told0, ml_endAt, ms_at, ms_names, ms_sort, ms_trayMany, ms_trays, ms_tape, ms_text, ms_opened, ms_now, ms_lies, ms_moveKind, ms_moveOne, ms_moveTwo, ms_moveThird, ms_far, ms_come, ms_good, ms_way, ms_rounds, ms_told0, ms_endAt, mgI, mgL, mpI, mpL, mpZ, mvc, bnd2_s, bind_s, rz, e1, lI, mI_eq, nI_add, pk_mul, nlt, nle, neq, nI_mI, mI_nI, nltm, mltn, nsub, zremN, zdivN, n1, h2]
theorem q_lessens (hm : MInv m σ) (hT : TW (zAI σ (m + 1))) (hl : (mvs (zAI σ (m + 1))).length ≤ 92) (wh : Nat) (hwh : wh = 1 ∨ wh = 2) (hLn : L.length ≤ 129600) (hLV : ∀ c, c ∈ L → VM (zAI σ (m + 1)) c) (hcl : ∀ c, c ∈ L → ∀ v, v ∈ mvs (zAI σ (m + 1)) → ∀ c', gM (zAI σ (m + 1)) (mOt m σ) v c = some c' → c' ∈ L) {c : Nat} (hc : c ∈ L) (hw : wt c = true) (hQ : QM m σ L F wt τ) {c0 : Nat} (hR : RI (mwM (zAI σ (m + 1)) (mOt m σ) wh) c0 L F (fun y => wt y = true)) :
    ∃ F' wt' le τ', f_X9_lessens m (nI c) (nI wh) τ = some (bI le, τ') ∧ QM m σ L F' wt' τ' ∧ RI (mwM (zAI σ (m + 1)) (mOt m σ) wh) c0 L F' (fun y => wt' y = true) ∧ (le = true → cmu F' L < cmu F L) ∧ (le = false → F' = F ∧ wt' = upB wt c false) := by
  obtain ⟨v0, hv0⟩ := Option.ne_none_iff_exists'.mp (hR.2.2 c hw).2
  have i0 : MInv m τ := (hQ.1.tt hm).1
  have hcl2 := VM_lt hT (hLV c hc)
  have hst : stZ (m + 17) (nI c) (nI 0) τ = some (sAI τ (m + 17) c (nI 0)) := ms_good i0 hcl2 (Or.inl rfl)
  have Q1 : QM m σ L F (upB wt c false) (sAI τ (m + 17) c (nI 0)) := hQ.good c false
  have R1 : RX (mwM (zAI σ (m + 1)) (mOt m σ) wh) c0 L F (fun y => upB wt c false y = true) c 0 := hR.pop (fun y hy => by
    by_cases e : y = c
    · rw [e, upB_at] at hy; cases hy
    · rw [upB_ne e] at hy; exact hy) (fun y hn hy => by rw [upB_ne hn]; exact hy)
  have key := loop_upN (body := fun s : (Int32 × Int32 × ZT) => f_X9_lessens_L12 m (nI c) (nI wh) s.1 s.2.1 s.2.2) (mvs (zAI σ (m + 1))).length (fun b : (Nat → Option Nat) × (Nat → Bool) × Bool => bI b.2.2) (P := fun j b τ => QM m σ L b.1 b.2.1 τ ∧ RX (mwM (zAI σ (m + 1)) (mOt m σ) wh) c0 L b.1 (fun y => b.2.1 y = true) c j ∧ b.1 c = some v0 ∧ (b.2.2 = true → cmu b.1 L < cmu F L) ∧ (b.2.2 = false → b.1 = F ∧ b.2.1 = upB wt c false)) (fun j hj b τ hP => ?_) (fun b τ hP => ?_) (F, upB wt c false, false) _ ⟨Q1, R1, hv0, fun h => (by cases h), fun _ => ⟨rfl, rfl⟩⟩
  · obtain ⟨b', τ', g1, g2, g3, g4, g5, g6⟩ := key
    rw [← mwM_len (zAI σ (m + 1)) (mOt m σ) wh] at g3
    refine ⟨b'.1, b'.2.1, b'.2.2, τ', ?_, g2, g3.all, g5, g6⟩
    have g1 : loopC (fun s : (Int32 × Int32 × ZT) => f_X9_lessens_L12 m (nI c) (nI wh) s.1 s.2.1 s.2.2) (nI 0, nI 0, sAI τ (m + 17) c (nI 0)) = some (bI b'.2.2, τ') := g1
    unfold f_X9_lessens
    simp only [mR936 i0, bind_s, lI, hst, g1, rz_bI]
  · obtain ⟨F1, w1, le⟩ := b
    obtain ⟨hQ, hR, hv, hm1, hm2⟩ := hP
    have hQ : QM m σ L F1 w1 τ := hQ
    have hv : F1 c = some v0 := hv
    have hR : RX (mwM (zAI σ (m + 1)) (mOt m σ) wh) c0 L F1 (fun y => w1 y = true) c j := hR
    obtain ⟨v, hjv⟩ : ∃ v, (mvs (zAI σ (m + 1)))[j]? = some v := ⟨_, List.getElem?_eq_getElem hj⟩
    have hvm := List.mem_of_getElem? hjv
    have hq := mwM_get (w := mOt m σ) (what := wh) hjv
    obtain ⟨i1, i2, i3⟩ := hQ.1.tt hm
    obtain ⟨y, e1⟩ := cm_mv hQ.1 hm hT hl (hLV c hc) hjv
    have hQ2 := hQ.NL y
    obtain ⟨j1, j2, j3⟩ := hQ2.1.tt hm
    have r933 := hQ.1.len
    have hcost := cst_le hT hvm wh
    have hvb := hR.1.bd hLn hc hv
    show ∃ (b' : (Nat → Option Nat) × (Nat → Bool) × Bool) (τ' : ZT), f_X9_lessens_L12 m (nI c) (nI wh) (bI le) (nI j) τ = some (.inl (bI b'.2.2, nI (j + 1), τ')) ∧ _
    unfold f_X9_lessens_L12 f_X9_lessens_J81_12 f_X9_lessens_J100_12
    cases hg : gM (zAI σ (m + 1)) (mOt m σ) v c with
    | none =>
      rw [hg] at e1
      refine ⟨(F1, w1, le), _, ?_, hQ2, hR.keep hq (fun v1 c' h1 h2 => ?_), hv, hm1, hm2⟩
      · simp (disch := first | exact i1 | exact j1 | omega) [mR900, mR901, mR905, mR906, mR907, mR908, mR909, mR921, mR924, mR925, mR929, mR930, mR931, mR932, mR934, mR935, mR936, mR940, mR949, mR950, mR951, ml_at, ml_names, ml_sort, ml_trayMany, ml_trays, ml_tape, ml_text, ml_opened, ml_now, ml_lies, ml_moveKind, ml_moveOne, ml_moveTwo, ml_moveThird, ml_far, ml_come, ml_good, ml_way, ml_rounds, ml_told0, ml_endAt, ms_at, ms_names, ms_sort, ms_trayMany, ms_trays, ms_tape, ms_text, ms_opened, ms_now, ms_lies, ms_moveKind, ms_moveOne, ms_moveTwo, ms_moveThird, ms_far, ms_come, ms_good, ms_way, ms_rounds, ms_told0, ms_endAt, mgI, mgL, mpI, mpL, mpZ, mvc, bnd2_s, bind_s, rz, lI, mI_eq, nI_add, pk_mul, nlt, nle, neq, nI_mI, mI_nI, nltm, mltn, nsub, zremN, zdivN, r933, hj, e1, oI]
      · have h2 : gM (zAI σ (m + 1)) (mOt m σ) v c = some c' := h2
        rw [hg] at h2
        cases h2
    | some c' =>
      rw [hg] at e1
      have hc'L := hcl c hc v hvm c' hg
      have hc'l := VM_lt hT (hLV c' hc'L)
      have rfc := hQ2.2.2.2.1 c hc
      rw [hv] at rfc
      have rfc : zAI (NL m τ y) (m + 15) c = nI v0 := rfc
      have rfc' := hQ2.2.2.2.1 c' hc'L
      have hco := q_costOf (j := j) (v := v) j1 (by rw [j2]; exact hT) (by rw [j2]; exact hQ2.1.2) (by rw [j2]; exact hl) wh hwh (by rw [j2]; exact hjv)
      rw [j2] at hco
      -- a less cost is laid
      have upd : (∀ u, F1 c' = some u → v0 + cst (zAI σ (m + 1)) wh v < u) → ∃ τ', (stI (m + 15) (nI c') (nI v0 + nI (cst (zAI σ (m + 1)) wh v)) (NL m τ y)).bind (fun σ => (gR 9 936 m σ).bind fun v15 => (stZ v15 (nI c') (nI 1) σ).bind fun σ => some (Sum.inl (nI 1, nI j + nI 1, σ))) = some (Sum.inl (nI 1, nI (j + 1), τ') : (Int32 × Int32 × ZT) ⊕ (Int32 × ZT)) ∧ QM m σ L (upO F1 c' (some (v0 + cst (zAI σ (m + 1)) wh v))) (upB w1 c' true) τ' ∧ RX (mwM (zAI σ (m + 1)) (mOt m σ) wh) c0 L (upO F1 c' (some (v0 + cst (zAI σ (m + 1)) wh v))) (fun y => upB w1 c' true y = true) c (j + 1) ∧ upO F1 c' (some (v0 + cst (zAI σ (m + 1)) wh v)) c = some v0 ∧ cmu (upO F1 c' (some (v0 + cst (zAI σ (m + 1)) wh v))) L < cmu F L := by
        intro hlt
        obtain ⟨s1, s2, s3⟩ := hR.set (wt' := fun y => upB w1 c' true y = true) hLn hq hc hv hg hc'L hcost hlt (fun y => by
          by_cases e : y = c'
          · rw [e, upB_at]; simp
          · rw [upB_ne e]; simp [e])
        have Q3 := hQ2.far c' (some (v0 + cst (zAI σ (m + 1)) wh v))
        have Q3 : QM m σ L (upO F1 c' (some (v0 + cst (zAI σ (m + 1)) wh v))) w1 (sAI (NL m τ y) (m + 15) c' (nI (v0 + cst (zAI σ (m + 1)) wh v))) := Q3
        have k1 : MInv m (sAI (NL m τ y) (m + 15) c' (nI (v0 + cst (zAI σ (m + 1)) wh v))) := j1
        have hst2 : stZ (m + 17) (nI c') (nI 1) (sAI (NL m τ y) (m + 15) c' (nI (v0 + cst (zAI σ (m + 1)) wh v))) = some (sAI (sAI (NL m τ y) (m + 15) c' (nI (v0 + cst (zAI σ (m + 1)) wh v))) (m + 17) c' (nI 1)) := ms_good k1 hc'l (Or.inr rfl)
        refine ⟨_, ?_, Q3.good c' true, s1, ?_, ?_⟩
        · simp (disch := first | exact j1 | exact k1 | omega) only [lI, mI_eq, nI_add, pk_mul, nlt, nle, neq, nI_mI, mI_nI, nltm, mltn, nsub, zremN, zdivN, ms_far, bind_s, mR936, hst2]
          rfl
        · rw [upO_ne (Ne.symm s2)]; exact hv
        · cases hle : le with
          | true =>
            have := hm1 hle
            exact Nat.lt_trans s3 this
          | false =>
            have := (hm2 hle).1
            have this : F1 = F := this
            rw [this] at s3 ⊢
            exact s3
      cases hF : F1 c' with
      | none =>
        rw [hF] at rfc'
        have rfc' : zAI (NL m τ y) (m + 15) c' = mI := rfc'
        obtain ⟨τ', u1, u2, u3, u4, u5⟩ := upd (fun u hu => by rw [hF] at hu; cases hu)
        refine ⟨(upO F1 c' (some (v0 + cst (zAI σ (m + 1)) wh v)), upB w1 c' true, true), τ', ?_, u2, u3, u4, fun _ => u5, fun h => by cases h⟩
        rw [← show bI true = nI 1 from rfl] at u1
        simp (disch := first | exact i1 | exact j1 | omega) only [mgI, bind_s, r933, nlt, hj, if_true, mvc, e1, bnd2_s, oI, lI, mI_eq, nI_mI, if_false, mR934, ml_far, rfc, rfc', hco]
        exact u1
      | some u =>
        rw [hF] at rfc'
        have rfc' : zAI (NL m τ y) (m + 15) c' = nI u := rfc'
        have hub := hR.1.bd hLn hc'L hF
        by_cases hz : v0 + cst (zAI σ (m + 1)) wh v < u
        · obtain ⟨τ', u1, u2, u3, u4, u5⟩ := upd (fun u' hu => by rw [hF] at hu; cases hu; exact hz)
          refine ⟨(upO F1 c' (some (v0 + cst (zAI σ (m + 1)) wh v)), upB w1 c' true, true), τ', ?_, u2, u3, u4, fun _ => u5, fun h => by cases h⟩
          rw [← show bI true = nI 1 from rfl] at u1
          have hzz : nI v0 + nI (cst (zAI σ (m + 1)) wh v) < nI u := by
            simp (disch := omega) only [lI, mI_eq, nI_add, pk_mul, nlt, nle, neq, nI_mI, mI_nI, nltm, mltn, nsub, zremN, zdivN]
            exact hz
          simp (disch := first | exact i1 | exact j1 | omega) only [mgI, bind_s, r933, nlt, hj, if_true, mvc, e1, bnd2_s, oI, lI, mI_eq, nI_mI, if_false, mR934, ml_far, rfc, rfc', hco, hzz]
          exact u1
        · refine ⟨(F1, w1, le), _, ?_, hQ2, hR.keep hq (fun v1 d h1 h2 => ?_), hv, hm1, hm2⟩
          · simp (disch := first | exact i1 | exact j1 | omega) [mR900, mR901, mR905, mR906, mR907, mR908, mR909, mR921, mR924, mR925, mR929, mR930, mR931, mR932, mR934, mR935, mR936, mR940, mR949, mR950, mR951, ml_at, ml_names, ml_sort, ml_trayMany, ml_trays, ml_tape, ml_text, ml_opened, ml_now, ml_lies, ml_moveKind, ml_moveOne, ml_moveTwo, ml_moveThird, ml_far, ml_come, ml_good, ml_way, ml_rounds, ml_told0, ml_endAt, ms_at, ms_names, ms_sort, ms_trayMany, ms_trays, ms_tape, ms_text, ms_opened, ms_now, ms_lies, ms_moveKind, ms_moveOne, ms_moveTwo, ms_moveThird, ms_far, ms_come, ms_good, ms_way, ms_rounds, ms_told0, ms_endAt, mgI, mgL, mpI, mpL, mpZ, mvc, bnd2_s, bind_s, rz, lI, mI_eq, nI_add, pk_mul, nlt, nle, neq, nI_mI, mI_nI, nltm, mltn, nsub, zremN, zdivN, r933, hj, e1, oI, rfc, rfc', hco, hz]
          · have h2 : gM (zAI σ (m + 1)) (mOt m σ) v c = some d := h2
            rw [hg] at h2
            cases h2
            have h1 : F1 c = some v1 := h1
            rw [hv] at h1
            cases h1
            refine ⟨u, hF, ?_⟩
            show u ≤ v0 + cst (zAI σ (m + 1)) wh v
            omega
  · obtain ⟨F1, w1, le⟩ := b
    have i1 : MInv m τ := (hP.1.1.tt hm).1
    have r933 := hP.1.1.len
    show f_X9_lessens_L12 m (nI c) (nI wh) (bI le) (nI _) τ = _
    unfold f_X9_lessens_L12
    simp (disch := first | exact i1 | omega) [mR900, mR901, mR905, mR906, mR907, mR908, mR909, mR921, mR924, mR925, mR929, mR930, mR931, mR932, mR934, mR935, mR936, mR940, mR949, mR950, mR951, ml_at, ml_names, ml_sort, ml_trayMany, ml_trays, ml_tape, ml_text, ml_opened, ml_now, ml_lies, ml_moveKind, ml_moveOne, ml_moveTwo, ml_moveThird, ml_far, ml_come, ml_good, ml_way, ml_rounds, ml_told0, ml_endAt, ms_at, ms_names, ms_sort, ms_trayMany, ms_trays, ms_tape, ms_text, ms_opened, ms_now, ms_lies, ms_moveKind, ms_moveOne, ms_moveTwo, ms_moveThird, ms_far, ms_come, ms_good, ms_way, ms_rounds, ms_told0, ms_endAt, mgI, mgL, mpI, mpL, mpZ, mvc, bnd2_s, bind_s, rz, lI, mI_eq, nI_add, pk_mul, nlt, nle, neq, nI_mI, mI_nI, nltm, mltn, nsub, zremN, zdivN, r933]
end
