set_option maxRecDepth 100000
/-- the model's array holds how many moves are left -/
def QF (m : Nat) (σ : ZT) (c0 : Nat) (L : List Nat) (F : Nat → Option Nat) (τ : ZT) : Prop := CM m σ τ ∧ zI τ 937 m = nI L.length ∧ zI τ 938 m = nI c0 ∧ (∀ i c, L[i]? = some c → zAI τ (m + 16) i = nI c) ∧ ∀ c, c ∈ L → zAI τ (m + 15) c = oI (F c)
theorem oI_inj {a b : Option Nat} (ha : ∀ u, a = some u → u < 2 ^ 31) (hb : ∀ u, b = some u → u < 2 ^ 31) : (oI a = oI b) = (a = b) := by
  apply propext
  constructor
  · intro h
    cases a with
    | none =>
      cases b with
      | none => rfl
      | some v =>
        have h : mI = nI v := h
        rw [mI_nI (hb v rfl)] at h
        exact h.elim
    | some u =>
      cases b with
      | none =>
        have h : nI u = mI := h
        rw [nI_mI (ha u rfl)] at h
        exact h.elim
      | some v =>
        have h : nI u = nI v := h
        rw [neq (ha u rfl) (hb v rfl)] at h
        rw [h]
  · intro h
    rw [h]
section
variable {x m t : Nat} {σ τ : ZT} {T : Nat → Int32} {B P O : Nat → Nat} {L : List Nat} {F : Nat → Option Nat} {c0 : Nat}
theorem QF.NL (h : QF m σ c0 L F τ) (y : St) : QF m σ c0 L F (NL m τ y) := by
  obtain ⟨h1, h2, h3, h4, h5⟩ := h
  refine ⟨h1.NL y, h2, h3, ?_, ?_⟩
  · rw [NL_ne _ (by omega) (by omega)]; exact h4
  · rw [NL_ne _ (by omega) (by omega)]; exact h5
theorem QF.far (h : QF m σ c0 L F τ) (c : Nat) (v : Option Nat) : QF m σ c0 L (upO F c v) (sAI τ (m + 15) c (oI v)) := by
  obtain ⟨h1, h2, h3, h4, h5⟩ := h
  refine ⟨h1.ai (by omega) _ _, h2, h3, ?_, fun y hy => ?_⟩
  · rw [sAI_r, zAIr_ne _ (by omega)]; exact h4
  · rw [r_AI]
    by_cases e : y = c
    · rw [e, if_pos ⟨rfl, rfl⟩, upO_at]
    · rw [if_neg (fun hh => e hh.2), upO_ne e]; exact h5 y hy
theorem q_leavesLess (hm : MInv m σ) (hT : TW (zAI σ (m + 1))) (hl : (mvs (zAI σ (m + 1))).length ≤ 92) (hLn : L.length ≤ 129600) (hLV : ∀ c, c ∈ L → VM (zAI σ (m + 1)) c) (hcl : ∀ c, c ∈ L → ∀ v, v ∈ mvs (zAI σ (m + 1)) → ∀ c', gM (zAI σ (m + 1)) (mOt m σ) v c = some c' → c' ∈ L) {c : Nat} (hc : c ∈ L) (hQ : QF m σ c0 L F τ) (hR : LV (msM (zAI σ (m + 1)) (mOt m σ)) (dn (zAI σ (m + 1))) L F) :
    ∃ b τ', f_X9_leavesLess m (nI c) τ = some (bI (decide (b ≠ F c)), τ') ∧ QF m σ c0 L (upO F c b) τ' ∧ Bst (msM (zAI σ (m + 1)) (mOt m σ)) F c b := by
  have i0 : MInv m τ := (hQ.1.tt hm).1
  have hcl2 := VM_lt hT (hLV c hc)
  have rf0 := hQ.2.2.2.2 c hc
  have hFb : ∀ y, y ∈ L → ∀ u, F y = some u → u < 129600 := fun y hy u hu => hR.bd hLn hy hu
  have key := loop_upN (body := fun s : (Int32 × Int32 × ZT) => f_X9_leavesLess_L9 m (nI c) s.1 s.2.1 s.2.2) (mvs (zAI σ (m + 1))).length oI (P := fun j b τ => QF m σ c0 L F τ ∧ (b = F c ∨ ∃ (i : Nat) (v : Mv) (c' k : Nat), i < j ∧ (mvs (zAI σ (m + 1)))[i]? = some v ∧ gM (zAI σ (m + 1)) (mOt m σ) v c = some c' ∧ F c' = some k ∧ b = some (k + 1)) ∧ (∀ (i : Nat) (v : Mv) (c' k : Nat), i < j → (mvs (zAI σ (m + 1)))[i]? = some v → gM (zAI σ (m + 1)) (mOt m σ) v c = some c' → F c' = some k → ∃ i', b = some i' ∧ i' ≤ k + 1) ∧ (∀ f0, F c = some f0 → ∃ i', b = some i' ∧ i' ≤ f0) ∧ ∀ i', b = some i' → i' ≤ 129600) (fun j hj b τ hP => ?_) (fun b τ hP => ?_) (F c) τ ⟨hQ, Or.inl rfl, fun i v c' k hi => absurd hi (Nat.not_lt_zero i), fun f0 hf => ⟨f0, hf, Nat.le_refl _⟩, fun i' hi' => by have := hFb c hc i' hi'; omega⟩
  · obtain ⟨b, τ2, g1, Q2, g2, g3, g4, g5⟩ := key
    have i2 : MInv m τ2 := (Q2.1.tt hm).1
    have rf2 := Q2.2.2.2.2 c hc
    have hinj : (oI b = oI (F c)) = (b = F c) := oI_inj (fun u hu => by have := g5 u hu; omega) (fun u hu => by have := hFb c hc u hu; omega)
    have hst : stI (m + 15) (nI c) (oI b) τ2 = some (sAI τ2 (m + 15) c (oI b)) := ms_far i2 hcl2 _
    refine ⟨b, _, ?_, Q2.far c b, ?_, ?_, g4⟩
    · unfold f_X9_leavesLess f_X9_leavesLess_J91
      by_cases e : b = F c
      · have hd : decide (b ≠ F c) = false := decide_eq_false (fun hh => hh e)
        rw [show (b = F c) = True from eq_true e] at hinj
        rw [hd]
        simp (disch := first | exact i0 | exact i2 | omega) only [mR934, bind_s, ml_far, rf0, lI, g1, rf2, hinj, if_true, hst, rz]
        rfl
      · have hd : decide (b ≠ F c) = true := decide_eq_true e
        rw [show (b = F c) = False from eq_false e] at hinj
        rw [hd]
        simp (disch := first | exact i0 | exact i2 | omega) only [mR934, bind_s, ml_far, rf0, lI, g1, rf2, hinj, if_false, hst, rz]
        rfl
    · rcases g2 with g2 | ⟨i, v, c', k, h1, h2, h3, h4, h5⟩
      · exact Or.inl g2
      · exact Or.inr ⟨_, c', k, gM_mem h2, h3, h4, h5⟩
    · intro f c' k hf e hk
      obtain ⟨v, hv, ev⟩ := List.mem_map.mp hf
      obtain ⟨i, hi⟩ := List.mem_iff_getElem?.mp hv
      rw [← ev] at e
      exact g3 i v c' k (List.getElem?_eq_some_iff.mp hi).1 hi e hk
  · obtain ⟨Q, p1, p2, p3, p4⟩ := hP
    obtain ⟨v, hjv⟩ : ∃ v, (mvs (zAI σ (m + 1)))[j]? = some v := ⟨_, List.getElem?_eq_getElem hj⟩
    have hvm := List.mem_of_getElem? hjv
    obtain ⟨i1, i2, i3⟩ := Q.1.tt hm
    obtain ⟨y, e1⟩ := cm_mv Q.1 hm hT hl (hLV c hc) hjv
    have Q2 := Q.NL y
    obtain ⟨j1, j2, j3⟩ := Q2.1.tt hm
    have r933 := Q.1.len
    -- nothing new
    have same : (∀ c' k, gM (zAI σ (m + 1)) (mOt m σ) v c = some c' → F c' = some k → ∃ i', b = some i' ∧ i' ≤ k + 1) → (b = F c ∨ ∃ (i : Nat) (v : Mv) (c' k : Nat), i < j + 1 ∧ (mvs (zAI σ (m + 1)))[i]? = some v ∧ gM (zAI σ (m + 1)) (mOt m σ) v c = some c' ∧ F c' = some k ∧ b = some (k + 1)) ∧ (∀ (i : Nat) (v : Mv) (c' k : Nat), i < j + 1 → (mvs (zAI σ (m + 1)))[i]? = some v → gM (zAI σ (m + 1)) (mOt m σ) v c = some c' → F c' = some k → ∃ i', b = some i' ∧ i' ≤ k + 1) ∧ (∀ f0, F c = some f0 → ∃ i', b = some i' ∧ i' ≤ f0) ∧ ∀ i', b = some i' → i' ≤ 129600 := by
      intro hs
      refine ⟨?_, fun i v' c' k hi hv' hc' hk => ?_, p3, p4⟩
      · rcases p1 with p1 | ⟨i, v', c', k, h1, h2, h3⟩
        · exact Or.inl p1
        · exact Or.inr ⟨i, v', c', k, by omega, h2, h3⟩
      · by_cases e : i = j
        · subst e
          rw [hjv] at hv'
          cases hv'
          exact hs c' k hc' hk
        · exact p2 i v' c' k (by omega) hv' hc' hk
    show ∃ b' τ', f_X9_leavesLess_L9 m (nI c) (oI b) (nI j) τ = some (.inl (oI b', nI (j + 1), τ')) ∧ _
    unfold f_X9_leavesLess_L9 f_X9_leavesLess_J60_9 f_X9_leavesLess_J70_9
    cases hg : gM (zAI σ (m + 1)) (mOt m σ) v c with
    | none =>
      rw [hg] at e1
      refine ⟨b, _, ?_, Q2, same (fun c' k h1 => by rw [hg] at h1; cases h1)⟩
      simp (disch := first | exact i1 | exact j1 | omega) [mR900, mR901, mR905, mR906, mR907, mR908, mR909, mR921, mR924, mR925, mR929, mR930, mR931, mR932, mR934, mR935, mR936, mR940, mR949, mR950, mR951, ml_at, ml_names, ml_sort, ml_trayMany, ml_trays, ml_tape, ml_text, ml_opened, ml_now, ml_lies, ml_moveKind, ml_moveOne, ml_moveTwo, ml_moveThird, ml_far, ml_come, ml_good, ml_way, ml_rounds, ml_told0, ml_endAt, ms_at, ms_names, ms_sort, ms_trayMany, ms_trays, ms_tape, ms_text, ms_opened, ms_now, ms_lies, ms_moveKind, ms_moveOne, ms_moveTwo, ms_moveThird, ms_far, ms_come, ms_good, ms_way, ms_rounds, ms_told0, ms_endAt, mgI, mgL, mpI, mpL, mpZ, mvc, bnd2_s, bind_s, rz, lI, mI_eq, nI_add, pk_mul, nlt, nle, neq, nI_mI, mI_nI, nltm, mltn, nsub, zremN, zdivN, r933, hj, e1, oI]
    | some c' =>
      rw [hg] at e1
      have e1 : f_X9_moved m (nI c) (nI j) τ = some (nI c', NL m τ y) := e1
      have hc'L := hcl c hc v hvm c' hg
      have hc'l := VM_lt hT (hLV c' hc'L)
      have rfc' := Q2.2.2.2.2 c' hc'L
      cases hF : F c' with
      | none =>
        rw [hF] at rfc'
        have rfc' : zAI (NL m τ y) (m + 15) c' = mI := rfc'
        refine ⟨b, _, ?_, Q2, same (fun c2 k h1 h2 => by rw [hg] at h1; cases h1; rw [hF] at h2; cases h2)⟩
        simp (disch := first | exact i1 | exact j1 | omega) [mR900, mR901, mR905, mR906, mR907, mR908, mR909, mR921, mR924, mR925, mR929, mR930, mR931, mR932, mR934, mR935, mR936, mR940, mR949, mR950, mR951, ml_at, ml_names, ml_sort, ml_trayMany, ml_trays, ml_tape, ml_text, ml_opened, ml_now, ml_lies, ml_moveKind, ml_moveOne, ml_moveTwo, ml_moveThird, ml_far, ml_come, ml_good, ml_way, ml_rounds, ml_told0, ml_endAt, ms_at, ms_names, ms_sort, ms_trayMany, ms_trays, ms_tape, ms_text, ms_opened, ms_now, ms_lies, ms_moveKind, ms_moveOne, ms_moveTwo, ms_moveThird, ms_far, ms_come, ms_good, ms_way, ms_rounds, ms_told0, ms_endAt, mgI, mgL, mpI, mpL, mpZ, mvc, bnd2_s, bind_s, rz, lI, mI_eq, nI_add, pk_mul, nlt, nle, neq, nI_mI, mI_nI, nltm, mltn, nsub, zremN, zdivN, r933, hj, e1, rfc']
      | some k =>
        rw [hF] at rfc'
        have rfc' : zAI (NL m τ y) (m + 15) c' = nI k := rfc'
        have hkb := hFb c' hc'L k hF
        have nw : (∀ i', b = some i' → k + 1 ≤ i') → (some (k + 1) = F c ∨ ∃ (i : Nat) (v : Mv) (c' k' : Nat), i < j + 1 ∧ (mvs (zAI σ (m + 1)))[i]? = some v ∧ gM (zAI σ (m + 1)) (mOt m σ) v c = some c' ∧ F c' = some k' ∧ some (k + 1) = some (k' + 1)) ∧ (∀ (i : Nat) (v : Mv) (c' k' : Nat), i < j + 1 → (mvs (zAI σ (m + 1)))[i]? = some v → gM (zAI σ (m + 1)) (mOt m σ) v c = some c' → F c' = some k' → ∃ i', some (k + 1) = some i' ∧ i' ≤ k' + 1) ∧ (∀ f0, F c = some f0 → ∃ i', some (k + 1) = some i' ∧ i' ≤ f0) ∧ ∀ i', some (k + 1) = some i' → i' ≤ 129600 := by
          intro hs
          refine ⟨Or.inr ⟨j, v, c', k, by omega, hjv, hg, hF, rfl⟩, fun i v' c2 k' hi hv' hc2 hk' => ⟨k + 1, rfl, ?_⟩, fun f0 hf0 => ⟨k + 1, rfl, ?_⟩, fun i' hi' => by cases hi'; omega⟩
          · by_cases e : i = j
            · subst e
              rw [hjv] at hv'
              cases hv'
              rw [hg] at hc2
              cases hc2
              rw [hF] at hk'
              cases hk'
              exact Nat.le_refl _
            · obtain ⟨i', h1, h2⟩ := p2 i v' c2 k' (by omega) hv' hc2 hk'
              have := hs i' h1
              omega
          · obtain ⟨i', h1, h2⟩ := p3 f0 hf0
            have := hs i' h1
            omega
        cases b with
        | none =>
          refine ⟨some (k + 1), _, ?_, Q2, nw (fun i' hi' => by cases hi')⟩
          simp (disch := first | exact i1 | exact j1 | omega) [mR900, mR901, mR905, mR906, mR907, mR908, mR909, mR921, mR924, mR925, mR929, mR930, mR931, mR932, mR934, mR935, mR936, mR940, mR949, mR950, mR951, ml_at, ml_names, ml_sort, ml_trayMany, ml_trays, ml_tape, ml_text, ml_opened, ml_now, ml_lies, ml_moveKind, ml_moveOne, ml_moveTwo, ml_moveThird, ml_far, ml_come, ml_good, ml_way, ml_rounds, ml_told0, ml_endAt, ms_at, ms_names, ms_sort, ms_trayMany, ms_trays, ms_tape, ms_text, ms_opened, ms_now, ms_lies, ms_moveKind, ms_moveOne, ms_moveTwo, ms_moveThird, ms_far, ms_come, ms_good, ms_way, ms_rounds, ms_told0, ms_endAt, mgI, mgL, mpI, mpL, mpZ, mvc, bnd2_s, bind_s, rz, lI, mI_eq, nI_add, pk_mul, nlt, nle, neq, nI_mI, mI_nI, nltm, mltn, nsub, zremN, zdivN, r933, hj, e1, rfc', oI]
        | some i' =>
          have hi'b := p4 i' rfl
          by_cases hz : k + 1 < i'
          · refine ⟨some (k + 1), _, ?_, Q2, nw (fun i2 hi2 => by cases hi2; omega)⟩
            simp (disch := first | exact i1 | exact j1 | omega) [mR900, mR901, mR905, mR906, mR907, mR908, mR909, mR921, mR924, mR925, mR929, mR930, mR931, mR932, mR934, mR935, mR936, mR940, mR949, mR950, mR951, ml_at, ml_names, ml_sort, ml_trayMany, ml_trays, ml_tape, ml_text, ml_opened, ml_now, ml_lies, ml_moveKind, ml_moveOne, ml_moveTwo, ml_moveThird, ml_far, ml_come, ml_good, ml_way, ml_rounds, ml_told0, ml_endAt, ms_at, ms_names, ms_sort, ms_trayMany, ms_trays, ms_tape, ms_text, ms_opened, ms_now, ms_lies, ms_moveKind, ms_moveOne, ms_moveTwo, ms_moveThird, ms_far, ms_come, ms_good, ms_way, ms_rounds, ms_told0, ms_endAt, mgI, mgL, mpI, mpL, mpZ, mvc, bnd2_s, bind_s, rz, lI, mI_eq, nI_add, pk_mul, nlt, nle, neq, nI_mI, mI_nI, nltm, mltn, nsub, zremN, zdivN, r933, hj, e1, rfc', oI, hz]
          · refine ⟨some i', _, ?_, Q2, same (fun c2 k2 h1 h2 => ⟨i', rfl, by rw [hg] at h1; cases h1; rw [hF] at h2; cases h2; omega⟩)⟩
            simp (disch := first | exact i1 | exact j1 | omega) [mR900, mR901, mR905, mR906, mR907, mR908, mR909, mR921, mR924, mR925, mR929, mR930, mR931, mR932, mR934, mR935, mR936, mR940, mR949, mR950, mR951, ml_at, ml_names, ml_sort, ml_trayMany, ml_trays, ml_tape, ml_text, ml_opened, ml_now, ml_lies, ml_moveKind, ml_moveOne, ml_moveTwo, ml_moveThird, ml_far, ml_come, ml_good, ml_way, ml_rounds, ml_told0, ml_endAt, ms_at, ms_names, ms_sort, ms_trayMany, ms_trays, ms_tape, ms_text, ms_opened, ms_now, ms_lies, ms_moveKind, ms_moveOne, ms_moveTwo, ms_moveThird, ms_far, ms_come, ms_good, ms_way, ms_rounds, ms_told0, ms_endAt, mgI, mgL, mpI, mpL, mpZ, mvc, bnd2_s, bind_s, rz, lI, mI_eq, nI_add, pk_mul, nlt, nle, neq, nI_mI, mI_nI, nltm, mltn, nsub, zremN, zdivN, r933, hj, e1, rfc', oI, hz]
  · obtain ⟨Q, -⟩ := hP
    have i1 : MInv m τ := (Q.1.tt hm).1
    have r933 := Q.1.len
    show f_X9_leavesLess_L9 m (nI c) (oI b) (nI _) τ = _
    unfold f_X9_leavesLess_L9
    simp (disch := first | exact i1 | omega) [mR900, mR901, mR905, mR906, mR907, mR908, mR909, mR921, mR924, mR925, mR929, mR930, mR931, mR932, mR934, mR935, mR936, mR940, mR949, mR950, mR951, ml_at, ml_names, ml_sort, ml_trayMany, ml_trays, ml_tape, ml_text, ml_opened, ml_now, ml_lies, ml_moveKind, ml_moveOne, ml_moveTwo, ml_moveThird, ml_far, ml_come, ml_good, ml_way, ml_rounds, ml_told0, ml_endAt, ms_at, ms_names, ms_sort, ms_trayMany, ms_trays, ms_tape, ms_text, ms_opened, ms_now, ms_lies, ms_moveKind, ms_moveOne, ms_moveTwo, ms_moveThird, ms_far, ms_come, ms_good, ms_way, ms_rounds, ms_told0, ms_endAt, mgI, mgL, mpI, mpL, mpZ, mvc, bnd2_s, bind_s, rz, lI, mI_eq, nI_add, pk_mul, nlt, nle, neq, nI_mI, mI_nI, nltm, mltn, nsub, zremN, zdivN, r933]
theorem q_leaves (hm : MInv m σ) (hT : TW (zAI σ (m + 1))) (hl : (mvs (zAI σ (m + 1))).length ≤ 92) {s : Bf} (hB : BI (VM (zAI σ (m + 1))) 129600 s) (hcl : ∀ c, c ∈ s.2 → ∀ v, v ∈ mvs (zAI σ (m + 1)) → ∀ c', gM (zAI σ (m + 1)) (mOt m σ) v c = some c' → c' ∈ s.2) (hC : CR m σ c0 s τ) :
    ∃ F τ', f_X9_leaves m τ = some τ' ∧ QF m σ c0 s.2 F τ' ∧ LV (msM (zAI σ (m + 1)) (mOt m σ)) (dn (zAI σ (m + 1))) s.2 F ∧ ∀ c, c ∈ s.2 → Stb (msM (zAI σ (m + 1)) (mOt m σ)) F c := by
  have hBl := hB.len
  have hLV : ∀ c, c ∈ s.2 → VM (zAI σ (m + 1)) c := fun c hc => (hB.2.2.1 c hc).1
  have hclf : ∀ c, c ∈ s.2 → ∀ f, f ∈ msM (zAI σ (m + 1)) (mOt m σ) → ∀ c', f c = some c' → c' ∈ s.2 := by
    intro c hc f hf c' e
    obtain ⟨v, hv, ev⟩ := List.mem_map.mp hf
    rw [← ev] at e
    exact hcl c hc v hv c' e
  have k1 := loop_upI (body := fun y : (Int32 × ZT) => f_X9_leaves_L2 m y.1 y.2) (L := s.2) (P := fun n τ => CM m σ τ ∧ zI τ 937 m = nI s.2.length ∧ zI τ 938 m = nI c0 ∧ (∀ i c, s.2[i]? = some c → zAI τ (m + 16) i = nI c) ∧ ∀ j c, j < n → s.2[j]? = some c → zAI τ (m + 15) c = oI (if dn (zAI σ (m + 1)) c = true then some 0 else none)) (fun j c hj τ hP => ?_) (fun τ hP => ?_) τ ⟨hC.cm, hC.2.2.2.1, hC.2.2.1, hC.2.2.2.2.2, fun j c hj => absurd hj (Nat.not_lt_zero j)⟩
  · obtain ⟨τ2, b1, c1, c2, c3, c4, c5⟩ := k1
    have Q2 : QF m σ c0 s.2 (fun c => if dn (zAI σ (m + 1)) c = true then some 0 else none) τ2 := ⟨c1, c2, c3, c4, fun c hc => by
      obtain ⟨j, hj⟩ := List.mem_iff_getElem?.mp hc
      exact c5 j c (List.getElem?_eq_some_iff.mp hj).1 hj⟩
    have R2 : LV (msM (zAI σ (m + 1)) (mOt m σ)) (dn (zAI σ (m + 1))) s.2 (fun c => if dn (zAI σ (m + 1)) c = true then some 0 else none) := by
      have hv : ∀ c j, (if dn (zAI σ (m + 1)) c = true then some 0 else none) = some j → dn (zAI σ (m + 1)) c = true ∧ j = 0 := by
        intro c j h
        by_cases e : dn (zAI σ (m + 1)) c = true
        · rw [if_pos e] at h
          cases h
          exact ⟨e, rfl⟩
        · rw [if_neg e] at h; cases h
      refine ⟨fun c j hc h => ?_, fun c hc hd => if_pos hd, fun c j hc h => ?_⟩
      · obtain ⟨e1, e2⟩ := hv c j h
        subst e2
        exact e1
      · obtain ⟨e1, e2⟩ := hv c j h
        subst e2
        have := knw_lt (F := fun _ => none) (F' := fun c => if dn (zAI σ (m + 1)) c = true then some 0 else none) (L := s.2) (fun y hy => absurd rfl hy) hc rfl (by show (if dn (zAI σ (m + 1)) c = true then some 0 else none) ≠ none; rw [if_pos e1]; simp)
        omega
    have k2 := loop_gh (body := fun y : (Int32 × ZT) => f_X9_leaves_L47 m y.1 y.2) (fun (g : (Nat → Option Nat) × Bool) (y : Int32 × ZT) => y.1 = bI g.2 ∧ QF m σ c0 s.2 g.1 y.2 ∧ LV (msM (zAI σ (m + 1)) (mOt m σ)) (dn (zAI σ (m + 1))) s.2 g.1 ∧ (g.2 = false → ∀ c, c ∈ s.2 → Stb (msM (zAI σ (m + 1)) (mOt m σ)) g.1 c)) (fun g => 2 * lmu g.1 s.2 + (if g.2 = true then 1 else 0)) (fun τ => ∃ F, QF m σ c0 s.2 F τ ∧ LV (msM (zAI σ (m + 1)) (mOt m σ)) (dn (zAI σ (m + 1))) s.2 F ∧ ∀ c, c ∈ s.2 → Stb (msM (zAI σ (m + 1)) (mOt m σ)) F c) (fun g y hI => ?_) (fun c => if dn (zAI σ (m + 1)) c = true then some 0 else none, true) (nI 1, τ2) ⟨rfl, Q2, R2, fun h => by cases h⟩
    · obtain ⟨τ3, d1, F, Q3, R3, S3⟩ := k2
      refine ⟨F, τ3, ?_, Q3, R3, S3⟩
      unfold f_X9_leaves
      simp only [lI, bind_s, b1, d1]
    · obtain ⟨F, ch⟩ := g
      obtain ⟨i, τ⟩ := y
      obtain ⟨e1, Q, R, hch⟩ := hI
      have e1 : i = bI ch := e1
      have Q : QF m σ c0 s.2 F τ := Q
      have R : LV (msM (zAI σ (m + 1)) (mOt m σ)) (dn (zAI σ (m + 1))) s.2 F := R
      subst e1
      show ∃ y, f_X9_leaves_L47 m (bI ch) τ = some y ∧ _
      unfold f_X9_leaves_L47
      cases ch with
      | false => exact ⟨.inr τ, rfl, F, Q, R, hch rfl⟩
      | true =>
        have i0 : MInv m τ := (Q.1.tt hm).1
        have r937 := Q.2.1
        have k3 := loop_downN (body := fun y : (Int32 × Int32 × ZT) => f_X9_leaves_L60 m y.1 y.2.1 y.2.2) s.2.length (fun b : (Nat → Option Nat) × Bool => bI b.2) (P := fun k b τ => QF m σ c0 s.2 b.1 τ ∧ LV (msM (zAI σ (m + 1)) (mOt m σ)) (dn (zAI σ (m + 1))) s.2 b.1 ∧ (b.2 = true → lmu b.1 s.2 < lmu F s.2) ∧ (b.2 = false → b.1 = F ∧ ∀ i c, k ≤ i → s.2[i]? = some c → Stb (msM (zAI σ (m + 1)) (mOt m σ)) F c)) (fun k hk b τ hP => ?_) (fun b τ hP => ?_) (F, false) τ ⟨Q, R, fun h => (by cases h), fun _ => ⟨rfl, fun i c hi hc => by
          have := (List.getElem?_eq_some_iff.mp hc).1
          omega⟩⟩
        · obtain ⟨b', τ', g1, Q', R', g2, g3⟩ := k3
          refine ⟨.inl (bI b'.2, τ'), ?_, b', ⟨rfl, Q', R', fun hf c hc => ?_⟩, ?_⟩
          · have hne : ¬ bI true = 0 := by decide
            rw [if_neg hne, mgI i0, bind_s, r937, lI]
            have g1 : loopC (fun y : (Int32 × Int32 × ZT) => f_X9_leaves_L60 m y.1 y.2.1 y.2.2) (nI 0, dI s.2.length, τ) = some (bI b'.2, τ') := g1
            show Option.bind (loopC _ (nI 0, dI s.2.length, τ)) _ = _
            rw [g1]
            rfl
          · obtain ⟨i, hi⟩ := List.mem_iff_getElem?.mp hc
            rw [(g3 hf).1]
            exact (g3 hf).2 i c (Nat.zero_le _) hi
          · show 2 * lmu b'.1 s.2 + (if b'.2 = true then 1 else 0) < 2 * lmu F s.2 + (if true = true then 1 else 0)
            rw [if_pos rfl]
            cases hb : b'.2 with
            | true =>
              have := g2 hb
              simp
              omega
            | false =>
              rw [(g3 hb).1]
              simp
        · obtain ⟨F1, le⟩ := b
          obtain ⟨Q, R, p1, p2⟩ := hP
          have Q : QF m σ c0 s.2 F1 τ := Q
          have R : LV (msM (zAI σ (m + 1)) (mOt m σ)) (dn (zAI σ (m + 1))) s.2 F1 := R
          obtain ⟨i1, i2, i3⟩ := Q.1.tt hm
          obtain ⟨c, hkc⟩ : ∃ c, s.2[k]? = some c := ⟨_, List.getElem?_eq_getElem hk⟩
          have hcm := List.mem_of_getElem? hkc
          have hcl2 := VM_lt hT (hLV c hcm)
          have rc := Q.2.2.2.1 k c hkc
          have rf := Q.2.2.2.2 c hcm
          have hge : ¬ nI k < nI 0 := nI_pos (by omega)
          show ∃ (b' : (Nat → Option Nat) × Bool) (τ' : ZT), f_X9_leaves_L60 m (bI le) (nI k) τ = some (.inl (bI b'.2, dI k, τ')) ∧ _
          unfold f_X9_leaves_L60 f_X9_leaves_J95_60 f_X9_leaves_J100_60 f_X9_leaves_J101_60
          by_cases h0 : F1 c = some 0
          · rw [h0] at rf
            have rf : zAI τ (m + 15) c = nI 0 := rf
            refine ⟨(F1, le), τ, ?_, Q, R, p1, fun hle => ⟨(p2 hle).1, fun i d hi hd => ?_⟩⟩
            · simp (disch := first | exact i1 | omega) [mR900, mR901, mR905, mR906, mR907, mR908, mR909, mR921, mR924, mR925, mR929, mR930, mR931, mR932, mR934, mR935, mR936, mR940, mR949, mR950, mR951, ml_at, ml_names, ml_sort, ml_trayMany, ml_trays, ml_tape, ml_text, ml_opened, ml_now, ml_lies, ml_moveKind, ml_moveOne, ml_moveTwo, ml_moveThird, ml_far, ml_come, ml_good, ml_way, ml_rounds, ml_told0, ml_endAt, ms_at, ms_names, ms_sort, ms_trayMany, ms_trays, ms_tape, ms_text, ms_opened, ms_now, ms_lies, ms_moveKind, ms_moveOne, ms_moveTwo, ms_moveThird, ms_far, ms_come, ms_good, ms_way, ms_rounds, ms_told0, ms_endAt, mgI, mgL, mpI, mpL, mpZ, mvc, bnd2_s, bind_s, rz, lI, mI_eq, nI_add, pk_mul, nlt, nle, neq, nI_mI, mI_nI, nltm, mltn, nsub, zremN, zdivN, rc, rf, hge, n_dn]
            · by_cases e : i = k
              · subst e
                rw [hkc] at hd
                cases hd
                have eF : F1 = F := (p2 hle).1
                intro f c' k' _ _ _
                exact ⟨0, by rw [← eF]; exact h0, by omega⟩
              · exact (p2 hle).2 i d (by omega) hd
          · have hne0 : ¬ zAI τ (m + 15) c = nI 0 := by
              rw [rf]
              cases hF : F1 c with
              | none =>
                show ¬ mI = nI 0
                decide
              | some u =>
                have := R.bd hBl hcm hF
                show ¬ nI u = nI 0
                rw [neq (by omega) (by omega)]
                intro e
                subst e
                exact h0 hF
            obtain ⟨b, τ', g1, Q', g2⟩ := q_leavesLess hm hT hl hBl hLV hcl hcm Q R
            obtain ⟨s1, s2, s3⟩ := R.set hBl hclf hcm h0 g2
            refine ⟨(upO F1 c b, decide (b ≠ F1 c) || le), τ', ?_, Q', s1, fun hle => ?_, fun hle => ?_⟩
            · have hd : decide (b ≠ F1 c) = true ∨ decide (b ≠ F1 c) = false := by cases decide (b ≠ F1 c) <;> simp
              generalize decide (b ≠ F1 c) = dd at g1 ⊢
              cases dd <;> cases le <;> simp (disch := first | exact i1 | omega) [mR900, mR901, mR905, mR906, mR907, mR908, mR909, mR921, mR924, mR925, mR929, mR930, mR931, mR932, mR934, mR935, mR936, mR940, mR949, mR950, mR951, ml_at, ml_names, ml_sort, ml_trayMany, ml_trays, ml_tape, ml_text, ml_opened, ml_now, ml_lies, ml_moveKind, ml_moveOne, ml_moveTwo, ml_moveThird, ml_far, ml_come, ml_good, ml_way, ml_rounds, ml_told0, ml_endAt, ms_at, ms_names, ms_sort, ms_trayMany, ms_trays, ms_tape, ms_text, ms_opened, ms_now, ms_lies, ms_moveKind, ms_moveOne, ms_moveTwo, ms_moveThird, ms_far, ms_come, ms_good, ms_way, ms_rounds, ms_told0, ms_endAt, mgI, mgL, mpI, mpL, mpZ, mvc, bnd2_s, bind_s, rz, lI, mI_eq, nI_add, pk_mul, nlt, nle, neq, nI_mI, mI_nI, nltm, mltn, nsub, zremN, zdivN, rc, hne0, hge, g1, bI, n_dn]
            · show lmu (upO F1 c b) s.2 < lmu F s.2
              cases hle1 : le with
              | true =>
                have q1 : lmu F1 s.2 < lmu F s.2 := p1 hle1
                omega
              | false =>
                have q1 : F1 = F := (p2 hle1).1
                have hle : (decide (b ≠ F1 c) || le) = true := hle
                rw [hle1, Bool.or_false] at hle
                have := s3 (of_decide_eq_true hle)
                rw [q1] at this ⊢
                exact this
            · have hle : (decide (b ≠ F1 c) || le) = false := hle
              obtain ⟨h1, h2⟩ := Bool.or_eq_false_iff.mp hle
              have h1 : b = F1 c := by
                have := of_decide_eq_false h1
                exact Classical.byContradiction this
              have q1 : F1 = F := (p2 h2).1
              refine ⟨?_, fun i d hi hd => ?_⟩
              · show upO F1 c b = F
                rw [← q1]
                funext y
                unfold upO
                by_cases ey : y = c
                · rw [if_pos ey, ey, h1]
                · rw [if_neg ey]
              · by_cases e : i = k
                · subst e
                  rw [hkc] at hd
                  cases hd
                  rw [← q1]
                  exact g2.stb h1
                · exact (p2 h2).2 i d (by omega) hd
        · obtain ⟨F1, le⟩ := b
          show f_X9_leaves_L60 m (bI le) mI τ = _
          unfold f_X9_leaves_L60
          rw [if_pos (show mI < 0 by decide)]
  · obtain ⟨c1, c2, c3, c4, c5⟩ := hP
    obtain ⟨i1, i2, i3⟩ := c1.tt hm
    have hcm := List.mem_of_getElem? hj
    have hcl2 := VM_lt hT (hLV c hcm)
    have hjl := (List.getElem?_eq_some_iff.mp hj).1
    obtain ⟨y, e1⟩ := cm_done c1 hm hT (hLV c hcm)
    have hC2 := c1.NL y
    have j1 : MInv m (NL m τ y) := i1
    have rc := c4 j c hj
    refine ⟨sAI (NL m τ y) (m + 15) c (oI (if dn (zAI σ (m + 1)) c = true then some 0 else none)), ?_, hC2.ai (by omega) _ _, c2, c3, fun i d hi => ?_, fun i d hi hd => ?_⟩
    · show f_X9_leaves_L2 m (nI j) τ = _
      unfold f_X9_leaves_L2 f_X9_leaves_J38_2
      cases hd : dn (zAI σ (m + 1)) c with
      | false =>
        rw [hd] at e1
        have e1 : f_X9_isDoneAt m (nI c) τ = some (nI 0, NL m τ y) := e1
        simp (disch := first | exact i1 | exact j1 | omega) [mR900, mR901, mR905, mR906, mR907, mR908, mR909, mR921, mR924, mR925, mR929, mR930, mR931, mR932, mR934, mR935, mR936, mR940, mR949, mR950, mR951, ml_at, ml_names, ml_sort, ml_trayMany, ml_trays, ml_tape, ml_text, ml_opened, ml_now, ml_lies, ml_moveKind, ml_moveOne, ml_moveTwo, ml_moveThird, ml_far, ml_come, ml_good, ml_way, ml_rounds, ml_told0, ml_endAt, ms_at, ms_names, ms_sort, ms_trayMany, ms_trays, ms_tape, ms_text, ms_opened, ms_now, ms_lies, ms_moveKind, ms_moveOne, ms_moveTwo, ms_moveThird, ms_far, ms_come, ms_good, ms_way, ms_rounds, ms_told0, ms_endAt, mgI, mgL, mpI, mpL, mpZ, mvc, bnd2_s, bind_s, rz, lI, mI_eq, nI_add, pk_mul, nlt, nle, neq, nI_mI, mI_nI, nltm, mltn, nsub, zremN, zdivN, c2, hjl, rc, e1, oI]
      | true =>
        rw [hd] at e1
        have e1 : f_X9_isDoneAt m (nI c) τ = some (nI 1, NL m τ y) := e1
        simp (disch := first | exact i1 | exact j1 | omega) [mR900, mR901, mR905, mR906, mR907, mR908, mR909, mR921, mR924, mR925, mR929, mR930, mR931, mR932, mR934, mR935, mR936, mR940, mR949, mR950, mR951, ml_at, ml_names, ml_sort, ml_trayMany, ml_trays, ml_tape, ml_text, ml_opened, ml_now, ml_lies, ml_moveKind, ml_moveOne, ml_moveTwo, ml_moveThird, ml_far, ml_come, ml_good, ml_way, ml_rounds, ml_told0, ml_endAt, ms_at, ms_names, ms_sort, ms_trayMany, ms_trays, ms_tape, ms_text, ms_opened, ms_now, ms_lies, ms_moveKind, ms_moveOne, ms_moveTwo, ms_moveThird, ms_far, ms_come, ms_good, ms_way, ms_rounds, ms_told0, ms_endAt, mgI, mgL, mpI, mpL, mpZ, mvc, bnd2_s, bind_s, rz, lI, mI_eq, nI_add, pk_mul, nlt, nle, neq, nI_mI, mI_nI, nltm, mltn, nsub, zremN, zdivN, c2, hjl, rc, e1, oI]
    · rw [r_AI, if_neg (by omega), NL_ne _ (by omega) (by omega)]
      exact c4 i d hi
    · rw [r_AI]
      by_cases e : d = c
      · rw [e, if_pos ⟨rfl, rfl⟩]
      · rw [if_neg (fun hh => e hh.2), NL_ne _ (by omega) (by omega)]
        refine c5 i d ?_ hd
        by_cases eij : i = j
        · subst eij
          rw [hj] at hd
          cases hd
          exact absurd rfl e
        · omega
  · obtain ⟨c1, c2, c3, c4, c5⟩ := hP
    have i1 : MInv m τ := (c1.tt hm).1
    show f_X9_leaves_L2 m (nI _) τ = _
    unfold f_X9_leaves_L2
    simp (disch := first | exact i1 | omega) [mR900, mR901, mR905, mR906, mR907, mR908, mR909, mR921, mR924, mR925, mR929, mR930, mR931, mR932, mR934, mR935, mR936, mR940, mR949, mR950, mR951, ml_at, ml_names, ml_sort, ml_trayMany, ml_trays, ml_tape, ml_text, ml_opened, ml_now, ml_lies, ml_moveKind, ml_moveOne, ml_moveTwo, ml_moveThird, ml_far, ml_come, ml_good, ml_way, ml_rounds, ml_told0, ml_endAt, ms_at, ms_names, ms_sort, ms_trayMany, ms_trays, ms_tape, ms_text, ms_opened, ms_now, ms_lies, ms_moveKind, ms_moveOne, ms_moveTwo, ms_moveThird, ms_far, ms_come, ms_good, ms_way, ms_rounds, ms_told0, ms_endAt, mgI, mgL, mpI, mpL, mpZ, mvc, bnd2_s, bind_s, rz, lI, mI_eq, nI_add, pk_mul, nlt, nle, neq, nI_mI, mI_nI, nltm, mltn, nsub, zremN, zdivN, c2]
end
