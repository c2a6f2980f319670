set_option maxRecDepth 100000
section
variable {x m t : Nat} {σ τ : ZT} {T : Nat → Int32} {B P O : Nat → Nat} {s : Bf} {G : Nat → Bool} {c0 : Nat}
theorem CRG.cm (h : CRG m σ c0 s G τ) : CM m σ τ := ⟨h.1, h.2.1⟩
theorem CRG.NL (h : CRG m σ c0 s G τ) (y : St) : CRG m σ c0 s G (NL m τ y) := by
  obtain ⟨h1, h2, h3, h4, h5, h6⟩ := h
  refine ⟨(CM.NL ⟨h1, h2⟩ y).1, (CM.NL ⟨h1, h2⟩ y).2, h3, h4, fun i c hi => ?_, fun c hc => ?_⟩
  · rw [NL_ne _ (by omega) (by omega)]; exact h5 i c hi
  · rw [NL_ne _ (by omega) (by omega)]; exact h6 c hc
theorem CRG.set (h : CRG m σ c0 s G τ) (c : Nat) (b : Bool) : CRG m σ c0 s (upB G c b) (sAI τ (m + 17) c (bI b)) := by
  obtain ⟨h1, h2, h3, h4, h5, h6⟩ := h
  refine ⟨(CM.ai ⟨h1, h2⟩ (by omega) _ _).1, (CM.ai ⟨h1, h2⟩ (by omega) _ _).2, h3, h4, fun i c hi => ?_, fun y hy => ?_⟩
  · rw [sAI_r, zAIr_ne _ (by omega)]; exact h5 i c hi
  · rw [r_AI]
    by_cases e : y = c
    · rw [e, if_pos ⟨rfl, rfl⟩, upB_at]
    · rw [if_neg (fun hh => e hh.2), upB_ne e]; exact h6 y hy
/-- the model: whether a move leads to what is good -/
theorem q_leads (h : MInv m σ) (hT : TW (zAI σ (m + 1))) (hl : (mvs (zAI σ (m + 1))).length ≤ 92) (hC : CRG m σ c0 s G τ) (hB : BI (VM (zAI σ (m + 1))) 129600 s) {k c : Nat} (hk : s.2[k]? = some c) (hcl : ∀ v, v ∈ mvs (zAI σ (m + 1)) → ∀ c', gM (zAI σ (m + 1)) (mOt m σ) v c = some c' → c' ∈ s.2) (ch : Int32) : ∃ τ', loopC (fun y : (Int32 × Int32 × ZT) => f_X9_keepsGood_L78 m ch (nI k) y.1 y.2.1 y.2.2) (nI 0, nI 0, τ) = some (bI (glA (msM (zAI σ (m + 1)) (mOt m σ)) G c), τ') ∧ CRG m σ c0 s G τ' := by
  rw [glA_any]
  have hcV := hB.2.2.1 c (List.mem_of_getElem? hk)
  have hkl := (List.getElem?_eq_some_iff.mp hk).1
  have hBl := hB.len
  refine loop_any (body := fun y : (Int32 × Int32 × ZT) => f_X9_keepsGood_L78 m ch (nI k) y.1 y.2.1 y.2.2) (P := fun τ => CRG m σ c0 s G τ) (fun j v hj τ hC => ?_) (fun j τ hj hC => ?_) (fun τ hC => ?_) τ hC
  · obtain ⟨i1, i2, i3⟩ := hC.cm.tt h
    obtain ⟨y, e1⟩ := cm_mv hC.cm h hT hl hcV.1 hj
    have hjl := (List.getElem?_eq_some_iff.mp hj).1
    have hC2 := hC.NL y
    have j1 : MInv m (NL m τ y) := i1
    have rc := hC.2.2.2.2.1 k c hk
    have r933 := hC.cm.len
    refine ⟨_, ?_, hC2⟩
    show f_X9_keepsGood_L78 m ch (nI k) (nI 0) (nI j) τ = _
    unfold f_X9_keepsGood_L78 f_X9_keepsGood_J125_78 f_X9_keepsGood_J126_78 pdM
    cases hg : gM (zAI σ (m + 1)) (mOt m σ) v c with
    | none =>
      rw [hg] at e1
      simp (disch := first | exact i1 | exact j1 | omega) [mR900, mR901, mR905, mR906, mR907, mR908, mR909, mR921, mR924, mR925, mR929, mR930, mR931, mR932, mR934, mR935, mR936, mR940, mR949, mR950, mR951, ml_at, ml_names, ml_sort, ml_trayMany, ml_trays, ml_tape, ml_text, ml_opened, ml_now, ml_lies, ml_moveKind, ml_moveOne, ml_moveTwo, ml_moveThird, ml_far, ml_come, ml_good, ml_way, ml_rounds, ml_told0, ml_endAt, ms_at, ms_names, ms_sort, ms_trayMany, ms_trays, ms_tape, ms_text, ms_opened, ms_now, ms_lies, ms_moveKind, ms_moveOne, ms_moveTwo, ms_moveThird, ms_far, ms_come, ms_good, ms_way, ms_rounds, ms_told0, ms_endAt, mgI, mgL, mpI, mpL, mpZ, mvc, bnd2_s, bind_s, rz, lI, mI_eq, nI_add, pk_mul, nlt, nle, neq, nI_mI, mI_nI, nltm, mltn, nsub, zremN, zdivN, r933, hjl, rc, e1, oI, bI]
    | some c' =>
      rw [hg] at e1
      have hc'm := hcl v (List.mem_of_getElem? hj) c' hg
      have hc' := hB.2.2.1 c' hc'm
      have rg := hC2.2.2.2.2.2 c' hc'm
      cases hgc : G c' with
      | false =>
        rw [hgc] at rg
        have rg : zAI (NL m τ y) (m + 17) c' = nI 0 := rg
        simp (disch := first | exact i1 | exact j1 | omega) [mR900, mR901, mR905, mR906, mR907, mR908, mR909, mR921, mR924, mR925, mR929, mR930, mR931, mR932, mR934, mR935, mR936, mR940, mR949, mR950, mR951, ml_at, ml_names, ml_sort, ml_trayMany, ml_trays, ml_tape, ml_text, ml_opened, ml_now, ml_lies, ml_moveKind, ml_moveOne, ml_moveTwo, ml_moveThird, ml_far, ml_come, ml_good, ml_way, ml_rounds, ml_told0, ml_endAt, ms_at, ms_names, ms_sort, ms_trayMany, ms_trays, ms_tape, ms_text, ms_opened, ms_now, ms_lies, ms_moveKind, ms_moveOne, ms_moveTwo, ms_moveThird, ms_far, ms_come, ms_good, ms_way, ms_rounds, ms_told0, ms_endAt, mgI, mgL, mpI, mpL, mpZ, mvc, bnd2_s, bind_s, rz, lI, mI_eq, nI_add, pk_mul, nlt, nle, neq, nI_mI, mI_nI, nltm, mltn, nsub, zremN, zdivN, r933, hjl, rc, e1, oI, rg, bI, hgc]
      | true =>
        rw [hgc] at rg
        have rg : zAI (NL m τ y) (m + 17) c' = nI 1 := rg
        simp (disch := first | exact i1 | exact j1 | omega) [mR900, mR901, mR905, mR906, mR907, mR908, mR909, mR921, mR924, mR925, mR929, mR930, mR931, mR932, mR934, mR935, mR936, mR940, mR949, mR950, mR951, ml_at, ml_names, ml_sort, ml_trayMany, ml_trays, ml_tape, ml_text, ml_opened, ml_now, ml_lies, ml_moveKind, ml_moveOne, ml_moveTwo, ml_moveThird, ml_far, ml_come, ml_good, ml_way, ml_rounds, ml_told0, ml_endAt, ms_at, ms_names, ms_sort, ms_trayMany, ms_trays, ms_tape, ms_text, ms_opened, ms_now, ms_lies, ms_moveKind, ms_moveOne, ms_moveTwo, ms_moveThird, ms_far, ms_come, ms_good, ms_way, ms_rounds, ms_told0, ms_endAt, mgI, mgL, mpI, mpL, mpZ, mvc, bnd2_s, bind_s, rz, lI, mI_eq, nI_add, pk_mul, nlt, nle, neq, nI_mI, mI_nI, nltm, mltn, nsub, zremN, zdivN, r933, hjl, rc, e1, oI, rg, bI, hgc]
  · obtain ⟨i1, i2, i3⟩ := hC.cm.tt h
    have r933 := hC.cm.len
    show f_X9_keepsGood_L78 m ch (nI k) (nI 1) (nI j) τ = _
    unfold f_X9_keepsGood_L78
    simp (disch := first | exact i1 | omega) [mR900, mR901, mR905, mR906, mR907, mR908, mR909, mR921, mR924, mR925, mR929, mR930, mR931, mR932, mR934, mR935, mR936, mR940, mR949, mR950, mR951, ml_at, ml_names, ml_sort, ml_trayMany, ml_trays, ml_tape, ml_text, ml_opened, ml_now, ml_lies, ml_moveKind, ml_moveOne, ml_moveTwo, ml_moveThird, ml_far, ml_come, ml_good, ml_way, ml_rounds, ml_told0, ml_endAt, ms_at, ms_names, ms_sort, ms_trayMany, ms_trays, ms_tape, ms_text, ms_opened, ms_now, ms_lies, ms_moveKind, ms_moveOne, ms_moveTwo, ms_moveThird, ms_far, ms_come, ms_good, ms_way, ms_rounds, ms_told0, ms_endAt, mgI, mgL, mpI, mpL, mpZ, mvc, bnd2_s, bind_s, rz, lI, mI_eq, nI_add, pk_mul, nlt, nle, neq, nI_mI, mI_nI, nltm, mltn, nsub, zremN, zdivN, r933]
  · obtain ⟨i1, i2, i3⟩ := hC.cm.tt h
    have r933 := hC.cm.len
    show f_X9_keepsGood_L78 m ch (nI k) (nI 0) (nI _) τ = _
    unfold f_X9_keepsGood_L78
    simp (disch := first | exact i1 | omega) [mR900, mR901, mR905, mR906, mR907, mR908, mR909, mR921, mR924, mR925, mR929, mR930, mR931, mR932, mR934, mR935, mR936, mR940, mR949, mR950, mR951, ml_at, ml_names, ml_sort, ml_trayMany, ml_trays, ml_tape, ml_text, ml_opened, ml_now, ml_lies, ml_moveKind, ml_moveOne, ml_moveTwo, ml_moveThird, ml_far, ml_come, ml_good, ml_way, ml_rounds, ml_told0, ml_endAt, ms_at, ms_names, ms_sort, ms_trayMany, ms_trays, ms_tape, ms_text, ms_opened, ms_now, ms_lies, ms_moveKind, ms_moveOne, ms_moveTwo, ms_moveThird, ms_far, ms_come, ms_good, ms_way, ms_rounds, ms_told0, ms_endAt, mgI, mgL, mpI, mpL, mpZ, mvc, bnd2_s, bind_s, rz, lI, mI_eq, nI_add, pk_mul, nlt, nle, neq, nI_mI, mI_nI, nltm, mltn, nsub, zremN, zdivN, r933]
theorem q_keepsGood (h : MInv m σ) (hT : TW (zAI σ (m + 1))) (hl : (mvs (zAI σ (m + 1))).length ≤ 92) (hC : CR m σ c0 s τ) (hB : BI (VM (zAI σ (m + 1))) 129600 s) (hcl : ∀ c, c ∈ s.2 → ∀ v, v ∈ mvs (zAI σ (m + 1)) → ∀ c', gM (zAI σ (m + 1)) (mOt m σ) v c = some c' → c' ∈ s.2) : ∃ τ' G, f_X9_keepsGood m τ = some τ' ∧ gfix (msM (zAI σ (m + 1)) (mOt m σ)) s.2 (true, dn (zAI σ (m + 1))) = some G ∧ CRG m σ c0 s G τ' := by
  have hBl := hB.len
  have k1 := loop_upI (body := fun y : (Int32 × ZT) => f_X9_keepsGood_L2 m y.1 y.2) (L := s.2) (P := fun n τ => FR m 933 938 9 17 σ τ ∧ ML m τ (mvs (zAI σ (m + 1))) ∧ zI τ 938 m = nI c0 ∧ zI τ 937 m = nI s.2.length ∧ (∀ i c, s.2[i]? = some c → zAI τ (m + 16) i = nI c) ∧ ∀ j c, j < n → s.2[j]? = some c → zAI τ (m + 17) c = bI (dn (zAI σ (m + 1)) c)) (fun j c hj τ hC => ?_) (fun τ hC => ?_) τ ⟨hC.cm.1, hC.cm.2, hC.2.2.1, hC.2.2.2.1, hC.2.2.2.2.2, fun j c hj => absurd hj (Nat.not_lt_zero j)⟩
  · obtain ⟨τ2, b1, c1, c2, c3, c4, c5, c6⟩ := k1
    have C2 : CRG m σ c0 s (dn (zAI σ (m + 1))) τ2 := ⟨c1, c2, c3, c4, c5, fun c hc => by
      obtain ⟨j, hj⟩ := List.mem_iff_getElem?.mp hc
      exact c6 j c (List.getElem?_eq_some_iff.mp hj).1 hj⟩
    have k2 := loop_gh (body := fun y : (Int32 × ZT) => f_X9_keepsGood_L39 m y.1 y.2) (fun (g : Bool × (Nat → Bool)) (y : Int32 × ZT) => y.1 = bI g.1 ∧ CRG m σ c0 s g.2 y.2 ∧ gfix (msM (zAI σ (m + 1)) (mOt m σ)) s.2 g = gfix (msM (zAI σ (m + 1)) (mOt m σ)) s.2 (true, dn (zAI σ (m + 1)))) (fun g => 2 * gmu s.2 g.2 + (if g.1 = true then 1 else 0)) (fun τ => ∃ G, gfix (msM (zAI σ (m + 1)) (mOt m σ)) s.2 (true, dn (zAI σ (m + 1))) = some G ∧ CRG m σ c0 s G τ) (fun g y hI => ?_) (true, dn (zAI σ (m + 1))) (nI 1, τ2) ⟨rfl, C2, rfl⟩
    · obtain ⟨τ3, d1, G, d2, d3⟩ := k2
      refine ⟨τ3, G, ?_, d2, d3⟩
      unfold f_X9_keepsGood
      simp only [lI, bind_s, b1, d1]
    · obtain ⟨i, τ⟩ := y
      obtain ⟨ch, G⟩ := g
      obtain ⟨e1, hC, e2⟩ := hI
      have e1 : i = bI ch := e1
      have hC : CRG m σ c0 s G τ := hC
      subst e1
      show ∃ y, f_X9_keepsGood_L39 m (bI ch) τ = some y ∧ _
      unfold f_X9_keepsGood_L39
      cases ch with
      | false =>
        refine ⟨.inr τ, rfl, G, ?_, hC⟩
        rw [← e2, gfix_f]
      | true =>
        obtain ⟨i1, i2, i3⟩ := hC.cm.tt h
        have r937 := hC.2.2.2.1
        have k3 := loop_downG (body := fun y : (Int32 × Int32 × ZT) => f_X9_keepsGood_L52 m y.1 y.2.1 y.2.2) (L := s.2) (f := grA (msM (zAI σ (m + 1)) (mOt m σ))) (fun b : Bool × (Nat → Bool) => bI b.1) (P := fun b τ => CRG m σ c0 s b.2 τ) (fun j c hj b τ hC => ?_) (fun b τ hC => ?_) (false, G) τ hC
        · obtain ⟨τ4, d1, d2⟩ := k3
          have d1 : loopC (fun y : (Int32 × Int32 × ZT) => f_X9_keepsGood_L52 m y.1 y.2.1 y.2.2) (nI 0, dI s.2.length, τ) = some (bI (grnd (msM (zAI σ (m + 1)) (mOt m σ)) s.2 G).1, τ4) := d1
          refine ⟨.inl (bI (grnd (msM (zAI σ (m + 1)) (mOt m σ)) s.2 G).1, τ4), ?_, grnd (msM (zAI σ (m + 1)) (mOt m σ)) s.2 G, ⟨rfl, d2, ?_⟩, ?_⟩
          · have hne : ¬ bI true = 0 := by decide
            rw [if_neg hne, mgI i1, bind_s, r937, lI]
            show Option.bind (loopC _ (nI 0, dI s.2.length, τ)) _ = _
            rw [d1]
            rfl
          · rw [← e2, gfix_t]
          · have hmu := grnd_mu (msM (zAI σ (m + 1)) (mOt m σ)) s.2 G
            show 2 * gmu s.2 (grnd (msM (zAI σ (m + 1)) (mOt m σ)) s.2 G).2 + (if (grnd (msM (zAI σ (m + 1)) (mOt m σ)) s.2 G).1 = true then 1 else 0) < 2 * gmu s.2 G + (if true = true then 1 else 0)
            by_cases e : (grnd (msM (zAI σ (m + 1)) (mOt m σ)) s.2 G).1 = true
            · have := hmu.2 e
              rw [if_pos e, if_pos rfl]
              omega
            · rw [if_neg e, if_pos rfl]
              have := hmu.1
              omega
        · obtain ⟨ch, G⟩ := b
          have hC : CRG m σ c0 s G τ := hC
          obtain ⟨i1, i2, i3⟩ := hC.cm.tt h
          have hcm := List.mem_of_getElem? hj
          have hcV := hB.2.2.1 c hcm
          have hjl := (List.getElem?_eq_some_iff.mp hj).1
          have rc := hC.2.2.2.2.1 j c hj
          have rg := hC.2.2.2.2.2 c hcm
          obtain ⟨τ5, f1, f2⟩ := q_leads h hT hl hC hB hj (hcl c hcm) (bI ch)
          obtain ⟨j1, j2, j3⟩ := f2.cm.tt h
          have rc5 := f2.2.2.2.2.1 j c hj
          have hge : ¬ nI j < nI 0 := nI_pos (by omega)
          show ∃ τ', f_X9_keepsGood_L52 m (bI ch) (nI j) τ = some (.inl (bI (grA (msM (zAI σ (m + 1)) (mOt m σ)) (ch, G) c).1, dI j, τ')) ∧ CRG m σ c0 s (grA (msM (zAI σ (m + 1)) (mOt m σ)) (ch, G) c).2 τ'
          unfold f_X9_keepsGood_L52 f_X9_keepsGood_J133_52 f_X9_keepsGood_J153_52 f_X9_keepsGood_J158_52 f_X9_keepsGood_J159_52 grA
          cases hgc : G c with
          | true =>
            rw [hgc] at rg
            have rg : zAI τ (m + 17) c = nI 1 := rg
            refine ⟨τ, ?_, by rw [if_pos hgc]; exact hC⟩
            rw [if_pos hgc]
            simp (disch := first | exact i1 | omega) [mR900, mR901, mR905, mR906, mR907, mR908, mR909, mR921, mR924, mR925, mR929, mR930, mR931, mR932, mR934, mR935, mR936, mR940, mR949, mR950, mR951, ml_at, ml_names, ml_sort, ml_trayMany, ml_trays, ml_tape, ml_text, ml_opened, ml_now, ml_lies, ml_moveKind, ml_moveOne, ml_moveTwo, ml_moveThird, ml_far, ml_come, ml_good, ml_way, ml_rounds, ml_told0, ml_endAt, ms_at, ms_names, ms_sort, ms_trayMany, ms_trays, ms_tape, ms_text, ms_opened, ms_now, ms_lies, ms_moveKind, ms_moveOne, ms_moveTwo, ms_moveThird, ms_far, ms_come, ms_good, ms_way, ms_rounds, ms_told0, ms_endAt, mgI, mgL, mpI, mpL, mpZ, mvc, bnd2_s, bind_s, rz, lI, mI_eq, nI_add, pk_mul, nlt, nle, neq, nI_mI, mI_nI, nltm, mltn, nsub, zremN, zdivN, rc, rg, hge, n_dn]
          | false =>
            rw [hgc] at rg
            have rg : zAI τ (m + 17) c = nI 0 := rg
            have hgc' : ¬ (ch, G).2 c = true := by show ¬ G c = true; rw [hgc]; decide
            rw [if_neg hgc']
            cases hgl : glA (msM (zAI σ (m + 1)) (mOt m σ)) G c with
            | false =>
              rw [hgl] at f1
              have f1 : loopC (fun y : (Int32 × Int32 × ZT) => f_X9_keepsGood_L78 m (bI ch) (nI j) y.1 y.2.1 y.2.2) (nI 0, nI 0, τ) = some (nI 0, τ5) := f1
              rw [if_neg (show ¬ false = true by decide)]
              have hst : stZ (m + 17) (nI c) (nI 0) τ5 = some (sAI τ5 (m + 17) c (nI 0)) := ms_good j1 hcV.2 (Or.inl rfl)
              have hf2 : CRG m σ c0 s G (sAI τ5 (m + 17) c (nI 0)) := by
                have hz := f2.set c false
                have eu : upB G c false = G := by
                  funext y
                  unfold upB
                  by_cases ey : y = c
                  · rw [if_pos ey, ey, hgc]
                  · rw [if_neg ey]
                rw [eu] at hz
                exact hz
              refine ⟨_, ?_, hf2⟩
              cases ch with
              | false => simp (disch := first | exact i1 | exact j1 | omega) [mR900, mR901, mR905, mR906, mR907, mR908, mR909, mR921, mR924, mR925, mR929, mR930, mR931, mR932, mR934, mR935, mR936, mR940, mR949, mR950, mR951, ml_at, ml_names, ml_sort, ml_trayMany, ml_trays, ml_tape, ml_text, ml_opened, ml_now, ml_lies, ml_moveKind, ml_moveOne, ml_moveTwo, ml_moveThird, ml_far, ml_come, ml_good, ml_way, ml_rounds, ml_told0, ml_endAt, ms_at, ms_names, ms_sort, ms_trayMany, ms_trays, ms_tape, ms_text, ms_opened, ms_now, ms_lies, ms_moveKind, ms_moveOne, ms_moveTwo, ms_moveThird, ms_far, ms_come, ms_good, ms_way, ms_rounds, ms_told0, ms_endAt, mgI, mgL, mpI, mpL, mpZ, mvc, bnd2_s, bind_s, rz, lI, mI_eq, nI_add, pk_mul, nlt, nle, neq, nI_mI, mI_nI, nltm, mltn, nsub, zremN, zdivN, rc, rg, rc5, hge, f1, hst, n_dn, bI] at f1 ⊢; simp (disch := first | exact i1 | exact j1 | omega) [mR900, mR901, mR905, mR906, mR907, mR908, mR909, mR921, mR924, mR925, mR929, mR930, mR931, mR932, mR934, mR935, mR936, mR940, mR949, mR950, mR951, ml_at, ml_names, ml_sort, ml_trayMany, ml_trays, ml_tape, ml_text, ml_opened, ml_now, ml_lies, ml_moveKind, ml_moveOne, ml_moveTwo, ml_moveThird, ml_far, ml_come, ml_good, ml_way, ml_rounds, ml_told0, ml_endAt, ms_at, ms_names, ms_sort, ms_trayMany, ms_trays, ms_tape, ms_text, ms_opened, ms_now, ms_lies, ms_moveKind, ms_moveOne, ms_moveTwo, ms_moveThird, ms_far, ms_come, ms_good, ms_way, ms_rounds, ms_told0, ms_endAt, mgI, mgL, mpI, mpL, mpZ, mvc, bnd2_s, bind_s, rz, lI, mI_eq, nI_add, pk_mul, nlt, nle, neq, nI_mI, mI_nI, nltm, mltn, nsub, zremN, zdivN, rc5, f1, hst, n_dn]
              | true => simp (disch := first | exact i1 | exact j1 | omega) [mR900, mR901, mR905, mR906, mR907, mR908, mR909, mR921, mR924, mR925, mR929, mR930, mR931, mR932, mR934, mR935, mR936, mR940, mR949, mR950, mR951, ml_at, ml_names, ml_sort, ml_trayMany, ml_trays, ml_tape, ml_text, ml_opened, ml_now, ml_lies, ml_moveKind, ml_moveOne, ml_moveTwo, ml_moveThird, ml_far, ml_come, ml_good, ml_way, ml_rounds, ml_told0, ml_endAt, ms_at, ms_names, ms_sort, ms_trayMany, ms_trays, ms_tape, ms_text, ms_opened, ms_now, ms_lies, ms_moveKind, ms_moveOne, ms_moveTwo, ms_moveThird, ms_far, ms_come, ms_good, ms_way, ms_rounds, ms_told0, ms_endAt, mgI, mgL, mpI, mpL, mpZ, mvc, bnd2_s, bind_s, rz, lI, mI_eq, nI_add, pk_mul, nlt, nle, neq, nI_mI, mI_nI, nltm, mltn, nsub, zremN, zdivN, rc, rg, rc5, hge, f1, hst, n_dn, bI] at f1 ⊢; simp (disch := first | exact i1 | exact j1 | omega) [mR900, mR901, mR905, mR906, mR907, mR908, mR909, mR921, mR924, mR925, mR929, mR930, mR931, mR932, mR934, mR935, mR936, mR940, mR949, mR950, mR951, ml_at, ml_names, ml_sort, ml_trayMany, ml_trays, ml_tape, ml_text, ml_opened, ml_now, ml_lies, ml_moveKind, ml_moveOne, ml_moveTwo, ml_moveThird, ml_far, ml_come, ml_good, ml_way, ml_rounds, ml_told0, ml_endAt, ms_at, ms_names, ms_sort, ms_trayMany, ms_trays, ms_tape, ms_text, ms_opened, ms_now, ms_lies, ms_moveKind, ms_moveOne, ms_moveTwo, ms_moveThird, ms_far, ms_come, ms_good, ms_way, ms_rounds, ms_told0, ms_endAt, mgI, mgL, mpI, mpL, mpZ, mvc, bnd2_s, bind_s, rz, lI, mI_eq, nI_add, pk_mul, nlt, nle, neq, nI_mI, mI_nI, nltm, mltn, nsub, zremN, zdivN, rc5, f1, hst, n_dn]
            | true =>
              rw [hgl] at f1
              have f1 : loopC (fun y : (Int32 × Int32 × ZT) => f_X9_keepsGood_L78 m (bI ch) (nI j) y.1 y.2.1 y.2.2) (nI 0, nI 0, τ) = some (nI 1, τ5) := f1
              rw [if_pos (show true = true from rfl)]
              have hst : stZ (m + 17) (nI c) (nI 1) τ5 = some (sAI τ5 (m + 17) c (nI 1)) := ms_good j1 hcV.2 (Or.inr rfl)
              refine ⟨_, ?_, f2.set c true⟩
              cases ch with
              | false => simp (disch := first | exact i1 | exact j1 | omega) [mR900, mR901, mR905, mR906, mR907, mR908, mR909, mR921, mR924, mR925, mR929, mR930, mR931, mR932, mR934, mR935, mR936, mR940, mR949, mR950, mR951, ml_at, ml_names, ml_sort, ml_trayMany, ml_trays, ml_tape, ml_text, ml_opened, ml_now, ml_lies, ml_moveKind, ml_moveOne, ml_moveTwo, ml_moveThird, ml_far, ml_come, ml_good, ml_way, ml_rounds, ml_told0, ml_endAt, ms_at, ms_names, ms_sort, ms_trayMany, ms_trays, ms_tape, ms_text, ms_opened, ms_now, ms_lies, ms_moveKind, ms_moveOne, ms_moveTwo, ms_moveThird, ms_far, ms_come, ms_good, ms_way, ms_rounds, ms_told0, ms_endAt, mgI, mgL, mpI, mpL, mpZ, mvc, bnd2_s, bind_s, rz, lI, mI_eq, nI_add, pk_mul, nlt, nle, neq, nI_mI, mI_nI, nltm, mltn, nsub, zremN, zdivN, rc, rg, rc5, hge, f1, hst, n_dn, bI] at f1 ⊢; simp (disch := first | exact i1 | exact j1 | omega) [mR900, mR901, mR905, mR906, mR907, mR908, mR909, mR921, mR924, mR925, mR929, mR930, mR931, mR932, mR934, mR935, mR936, mR940, mR949, mR950, mR951, ml_at, ml_names, ml_sort, ml_trayMany, ml_trays, ml_tape, ml_text, ml_opened, ml_now, ml_lies, ml_moveKind, ml_moveOne, ml_moveTwo, ml_moveThird, ml_far, ml_come, ml_good, ml_way, ml_rounds, ml_told0, ml_endAt, ms_at, ms_names, ms_sort, ms_trayMany, ms_trays, ms_tape, ms_text, ms_opened, ms_now, ms_lies, ms_moveKind, ms_moveOne, ms_moveTwo, ms_moveThird, ms_far, ms_come, ms_good, ms_way, ms_rounds, ms_told0, ms_endAt, mgI, mgL, mpI, mpL, mpZ, mvc, bnd2_s, bind_s, rz, lI, mI_eq, nI_add, pk_mul, nlt, nle, neq, nI_mI, mI_nI, nltm, mltn, nsub, zremN, zdivN, rc5, f1, hst, n_dn]
              | true => simp (disch := first | exact i1 | exact j1 | omega) [mR900, mR901, mR905, mR906, mR907, mR908, mR909, mR921, mR924, mR925, mR929, mR930, mR931, mR932, mR934, mR935, mR936, mR940, mR949, mR950, mR951, ml_at, ml_names, ml_sort, ml_trayMany, ml_trays, ml_tape, ml_text, ml_opened, ml_now, ml_lies, ml_moveKind, ml_moveOne, ml_moveTwo, ml_moveThird, ml_far, ml_come, ml_good, ml_way, ml_rounds, ml_told0, ml_endAt, ms_at, ms_names, ms_sort, ms_trayMany, ms_trays, ms_tape, ms_text, ms_opened, ms_now, ms_lies, ms_moveKind, ms_moveOne, ms_moveTwo, ms_moveThird, ms_far, ms_come, ms_good, ms_way, ms_rounds, ms_told0, ms_endAt, mgI, mgL, mpI, mpL, mpZ, mvc, bnd2_s, bind_s, rz, lI, mI_eq, nI_add, pk_mul, nlt, nle, neq, nI_mI, mI_nI, nltm, mltn, nsub, zremN, zdivN, rc, rg, rc5, hge, f1, hst, n_dn, bI] at f1 ⊢; simp (disch := first | exact i1 | exact j1 | omega) [mR900, mR901, mR905, mR906, mR907, mR908, mR909, mR921, mR924, mR925, mR929, mR930, mR931, mR932, mR934, mR935, mR936, mR940, mR949, mR950, mR951, ml_at, ml_names, ml_sort, ml_trayMany, ml_trays, ml_tape, ml_text, ml_opened, ml_now, ml_lies, ml_moveKind, ml_moveOne, ml_moveTwo, ml_moveThird, ml_far, ml_come, ml_good, ml_way, ml_rounds, ml_told0, ml_endAt, ms_at, ms_names, ms_sort, ms_trayMany, ms_trays, ms_tape, ms_text, ms_opened, ms_now, ms_lies, ms_moveKind, ms_moveOne, ms_moveTwo, ms_moveThird, ms_far, ms_come, ms_good, ms_way, ms_rounds, ms_told0, ms_endAt, mgI, mgL, mpI, mpL, mpZ, mvc, bnd2_s, bind_s, rz, lI, mI_eq, nI_add, pk_mul, nlt, nle, neq, nI_mI, mI_nI, nltm, mltn, nsub, zremN, zdivN, rc5, f1, hst, n_dn]
        · obtain ⟨ch, G⟩ := b
          show f_X9_keepsGood_L52 m (bI ch) mI τ = _
          unfold f_X9_keepsGood_L52
          rw [if_pos (show mI < 0 by decide)]
  · obtain ⟨c1, c2, c3, c4, c5, c6⟩ := hC
    have hCM : CM m σ τ := ⟨c1, c2⟩
    obtain ⟨i1, i2, i3⟩ := hCM.tt h
    have hcm := List.mem_of_getElem? hj
    have hcV := hB.2.2.1 c hcm
    have hjl := (List.getElem?_eq_some_iff.mp hj).1
    obtain ⟨y, e1⟩ := cm_done hCM h hT hcV.1
    have hC2 := hCM.NL y
    have j1 : MInv m (NL m τ y) := i1
    have rc := c5 j c hj
    have hst : stZ (m + 17) (nI c) (bI (dn (zAI σ (m + 1)) c)) (NL m τ y) = some (sAI (NL m τ y) (m + 17) c (bI (dn (zAI σ (m + 1)) c))) := ms_good j1 hcV.2 (bI_01 _)
    have hC3 := hC2.ai (k := 17) (by omega) c (bI (dn (zAI σ (m + 1)) c))
    refine ⟨_, ?_, hC3.1, hC3.2, c3, c4, fun i c' hi => ?_, fun i c' hi hc' => ?_⟩
    · show f_X9_keepsGood_L2 m (nI j) τ = _
      unfold f_X9_keepsGood_L2
      simp (disch := first | exact i1 | exact j1 | omega) [mR900, mR901, mR905, mR906, mR907, mR908, mR909, mR921, mR924, mR925, mR929, mR930, mR931, mR932, mR934, mR935, mR936, mR940, mR949, mR950, mR951, ml_at, ml_names, ml_sort, ml_trayMany, ml_trays, ml_tape, ml_text, ml_opened, ml_now, ml_lies, ml_moveKind, ml_moveOne, ml_moveTwo, ml_moveThird, ml_far, ml_come, ml_good, ml_way, ml_rounds, ml_told0, ml_endAt, ms_at, ms_names, ms_sort, ms_trayMany, ms_trays, ms_tape, ms_text, ms_opened, ms_now, ms_lies, ms_moveKind, ms_moveOne, ms_moveTwo, ms_moveThird, ms_far, ms_come, ms_good, ms_way, ms_rounds, ms_told0, ms_endAt, mgI, mgL, mpI, mpL, mpZ, mvc, bnd2_s, bind_s, rz, lI, mI_eq, nI_add, pk_mul, nlt, nle, neq, nI_mI, mI_nI, nltm, mltn, nsub, zremN, zdivN, c4, hjl, rc, e1, hst]
    · rw [sAI_r, zAIr_ne _ (by omega), NL_ne _ (by omega) (by omega)]
      exact c5 i c' hi
    · rw [r_AI]
      by_cases e : c' = c
      · rw [e, if_pos ⟨rfl, rfl⟩]
      · rw [if_neg (fun hh => e hh.2), NL_ne _ (by omega) (by omega)]
        refine c6 i c' ?_ hc'
        by_cases eij : i = j
        · subst eij
          rw [hj] at hc'
          cases hc'
          exact absurd rfl e
        · omega
  · obtain ⟨c1, c2, c3, c4, c5, c6⟩ := hC
    have i1 : MInv m τ := c1.inv h
    show f_X9_keepsGood_L2 m (nI _) τ = _
    unfold f_X9_keepsGood_L2
    simp (disch := first | exact i1 | omega) [mR900, mR901, mR905, mR906, mR907, mR908, mR909, mR921, mR924, mR925, mR929, mR930, mR931, mR932, mR934, mR935, mR936, mR940, mR949, mR950, mR951, ml_at, ml_names, ml_sort, ml_trayMany, ml_trays, ml_tape, ml_text, ml_opened, ml_now, ml_lies, ml_moveKind, ml_moveOne, ml_moveTwo, ml_moveThird, ml_far, ml_come, ml_good, ml_way, ml_rounds, ml_told0, ml_endAt, ms_at, ms_names, ms_sort, ms_trayMany, ms_trays, ms_tape, ms_text, ms_opened, ms_now, ms_lies, ms_moveKind, ms_moveOne, ms_moveTwo, ms_moveThird, ms_far, ms_come, ms_good, ms_way, ms_rounds, ms_told0, ms_endAt, mgI, mgL, mpI, mpL, mpZ, mvc, bnd2_s, bind_s, rz, lI, mI_eq, nI_add, pk_mul, nlt, nle, neq, nI_mI, mI_nI, nltm, mltn, nsub, zremN, zdivN, c4]
theorem q_lost (h : SB x m σ t T B P O) {K : Nat} (hK : BE (msM T (mOt m σ)) (enc T (nowS T)) K) (hl : (mvs T).length ≤ 92) : ∃ τ G, gfix (msM T (mOt m σ)) (bfsK (msM T (mOt m σ)) (b0 (enc T (nowS T))) K).2 (true, dn T) = some G ∧ f_X9_lost m σ = some ((bfsK (msM T (mOt m σ)) (b0 (enc T (nowS T))) K).2.foldl (fLo G) (nI 0), sI τ 902 m (nI 0)) ∧ FR m 933 938 9 17 σ τ := by
  have hT := h.2.2.2.2.2.1
  have hm : MInv m σ := h.2.2.2.1
  have eT : zAI σ (m + 1) = T := h.2.2.2.2.1
  have hV := VM_enc hT h.2.2.2.2.2.2.1
  have hcm := Cl_M hT (mOt m σ)
  obtain ⟨τ1, a1, C1⟩ := h.mall hK
  have hB := (bfsK_inv hcm hV K).1
  have hcls := fun {c} (hc : c ∈ (bfsK (msM T (mOt m σ)) (b0 (enc T (nowS T))) K).2) => @BE.closed (VM T) 129600 (msM T (mOt m σ)) hcm (enc T (nowS T)) K hV hK c hc
  have hBl := hB.len
  have i1 : MInv m τ1 := C1.1.inv hm
  generalize bfsK (msM T (mOt m σ)) (b0 (enc T (nowS T))) K = s at *
  obtain ⟨τ2, G, b1, b2, C2⟩ := q_keepsGood hm (by rw [eT]; exact hT) (by rw [eT]; exact hl) C1 (by rw [eT]; exact hB) (fun c hc v hv c' e => by
    rw [eT] at hv e
    exact hcls hc (List.mem_map.mpr ⟨v, hv, rfl⟩) e)
  rw [eT] at b2
  have key := loop_foldA (body := fun s : (Int32 × Int32 × ZT) => f_X9_lost_L12 m s.1 s.2.1 s.2.2) (L := s.2) (f := fLo G) (P := fun τ => CRG m σ (enc T (nowS T)) s G τ) (fun j c hj a τ hC => ?_) (fun a τ hC => ?_) (nI 0) τ2 C2
  · obtain ⟨τ3, d1, d2⟩ := key
    refine ⟨τ3, G, b2, ?_, d2.1⟩
    have i2 : MInv m τ2 := C2.1.inv hm
    have i3 : MInv m τ3 := d2.1.inv hm
    unfold f_X9_lost f_X9_gives
    simp (disch := first | exact hm | exact i1 | exact i2 | exact i3 | omega) only [mvc, lI, bind_s, a1, b1, d1, mpI, bnd2_s]
  · have hcm := List.mem_of_getElem? hj
    have hcV := hB.2.2.1 c hcm
    have i2 : MInv m τ := hC.1.inv hm
    have rc := hC.2.2.2.2.1 j c hj
    have rg := hC.2.2.2.2.2 c hcm
    have r937 := hC.2.2.2.1
    have hjl := (List.getElem?_eq_some_iff.mp hj).1
    refine ⟨τ, ?_, hC⟩
    show f_X9_lost_L12 m a (nI j) τ = _
    unfold f_X9_lost_L12 f_X9_lost_J40_12 fLo
    cases hg : G c with
    | false =>
      rw [hg] at rg
      have rg : zAI τ (m + 17) c = nI 0 := rg
      simp (disch := first | exact i2 | omega) [mR900, mR901, mR905, mR906, mR907, mR908, mR909, mR921, mR924, mR925, mR929, mR930, mR931, mR932, mR934, mR935, mR936, mR940, mR949, mR950, mR951, ml_at, ml_names, ml_sort, ml_trayMany, ml_trays, ml_tape, ml_text, ml_opened, ml_now, ml_lies, ml_moveKind, ml_moveOne, ml_moveTwo, ml_moveThird, ml_far, ml_come, ml_good, ml_way, ml_rounds, ml_told0, ml_endAt, ms_at, ms_names, ms_sort, ms_trayMany, ms_trays, ms_tape, ms_text, ms_opened, ms_now, ms_lies, ms_moveKind, ms_moveOne, ms_moveTwo, ms_moveThird, ms_far, ms_come, ms_good, ms_way, ms_rounds, ms_told0, ms_endAt, mgI, mgL, mpI, mpL, mpZ, mvc, bnd2_s, bind_s, rz, lI, mI_eq, nI_add, pk_mul, nlt, nle, neq, nI_mI, mI_nI, nltm, mltn, nsub, zremN, zdivN, r937, hjl, rc, rg]
    | true =>
      rw [hg] at rg
      have rg : zAI τ (m + 17) c = nI 1 := rg
      simp (disch := first | exact i2 | omega) [mR900, mR901, mR905, mR906, mR907, mR908, mR909, mR921, mR924, mR925, mR929, mR930, mR931, mR932, mR934, mR935, mR936, mR940, mR949, mR950, mR951, ml_at, ml_names, ml_sort, ml_trayMany, ml_trays, ml_tape, ml_text, ml_opened, ml_now, ml_lies, ml_moveKind, ml_moveOne, ml_moveTwo, ml_moveThird, ml_far, ml_come, ml_good, ml_way, ml_rounds, ml_told0, ml_endAt, ms_at, ms_names, ms_sort, ms_trayMany, ms_trays, ms_tape, ms_text, ms_opened, ms_now, ms_lies, ms_moveKind, ms_moveOne, ms_moveTwo, ms_moveThird, ms_far, ms_come, ms_good, ms_way, ms_rounds, ms_told0, ms_endAt, mgI, mgL, mpI, mpL, mpZ, mvc, bnd2_s, bind_s, rz, lI, mI_eq, nI_add, pk_mul, nlt, nle, neq, nI_mI, mI_nI, nltm, mltn, nsub, zremN, zdivN, r937, hjl, rc, rg]
  · have i2 : MInv m τ := hC.1.inv hm
    have r937 := hC.2.2.2.1
    show f_X9_lost_L12 m a (nI _) τ = _
    unfold f_X9_lost_L12
    simp (disch := first | exact i2 | omega) [mR900, mR901, mR905, mR906, mR907, mR908, mR909, mR921, mR924, mR925, mR929, mR930, mR931, mR932, mR934, mR935, mR936, mR940, mR949, mR950, mR951, ml_at, ml_names, ml_sort, ml_trayMany, ml_trays, ml_tape, ml_text, ml_opened, ml_now, ml_lies, ml_moveKind, ml_moveOne, ml_moveTwo, ml_moveThird, ml_far, ml_come, ml_good, ml_way, ml_rounds, ml_told0, ml_endAt, ms_at, ms_names, ms_sort, ms_trayMany, ms_trays, ms_tape, ms_text, ms_opened, ms_now, ms_lies, ms_moveKind, ms_moveOne, ms_moveTwo, ms_moveThird, ms_far, ms_come, ms_good, ms_way, ms_rounds, ms_told0, ms_endAt, mgI, mgL, mpI, mpL, mpZ, mvc, bnd2_s, bind_s, rz, lI, mI_eq, nI_add, pk_mul, nlt, nle, neq, nI_mI, mI_nI, nltm, mltn, nsub, zremN, zdivN, r937]
theorem q_safe (h : SB x m σ t T B P O) {K : Nat} (hK : BE (msM T (mOt m σ)) (enc T (nowS T)) K) (hl : (mvs T).length ≤ 92) : ∃ τ G, gfix (msM T (mOt m σ)) (bfsK (msM T (mOt m σ)) (b0 (enc T (nowS T))) K).2 (true, dn T) = some G ∧ f_X9_safe m σ = some ((mvs T).foldl (fSa T (mOt m σ) G (enc T (nowS T))) (nI 0), sI τ 902 m (nI 0)) ∧ FR m 933 938 9 17 σ τ := by
  have hT := h.2.2.2.2.2.1
  have hm : MInv m σ := h.2.2.2.1
  have eT : zAI σ (m + 1) = T := h.2.2.2.2.1
  have hV := VM_enc hT h.2.2.2.2.2.2.1
  have hcm := Cl_M hT (mOt m σ)
  obtain ⟨τ1, a1, C1⟩ := h.mall hK
  have hB := (bfsK_inv hcm hV K).1
  have hs0 := (BE.start hcm hV K).1
  have hcls := fun {c} (hc : c ∈ (bfsK (msM T (mOt m σ)) (b0 (enc T (nowS T))) K).2) => @BE.closed (VM T) 129600 (msM T (mOt m σ)) hcm (enc T (nowS T)) K hV hK c hc
  have hBl := hB.len
  have i1 : MInv m τ1 := C1.1.inv hm
  generalize bfsK (msM T (mOt m σ)) (b0 (enc T (nowS T))) K = s at *
  obtain ⟨τ2, G, b1, b2, C2⟩ := q_keepsGood hm (by rw [eT]; exact hT) (by rw [eT]; exact hl) C1 (by rw [eT]; exact hB) (fun c hc v hv c' e => by
    rw [eT] at hv e
    exact hcls hc (List.mem_map.mpr ⟨v, hv, rfl⟩) e)
  rw [eT] at b2
  generalize enc T (nowS T) = c0 at *
  have key := loop_foldA (body := fun s : (Int32 × Int32 × ZT) => f_X9_safe_L12 m s.1 s.2.1 s.2.2) (L := mvs T) (f := fSa T (mOt m σ) G c0) (P := fun τ => CRG m σ c0 s G τ) (fun j v hj a τ hC => ?_) (fun a τ hC => ?_) (nI 0) τ2 C2
  · obtain ⟨τ3, d1, d2⟩ := key
    refine ⟨τ3, G, b2, ?_, d2.1⟩
    have i2 : MInv m τ2 := C2.1.inv hm
    have i3 : MInv m τ3 := d2.1.inv hm
    unfold f_X9_safe f_X9_gives
    simp (disch := first | exact hm | exact i1 | exact i2 | exact i3 | omega) only [mvc, lI, bind_s, a1, b1, d1, mpI, bnd2_s]
  · have i2 : MInv m τ := hC.1.inv hm
    have hl9 : (mvs (zAI σ (m + 1))).length ≤ 92 := by rw [eT]; exact hl
    obtain ⟨y, e1⟩ := cm_mv hC.cm hm (by rw [eT]; exact hT) hl9 (c := c0) (j := j) (v := v) (by rw [eT]; exact hV.1) (by rw [eT]; exact hj)
    rw [eT] at e1
    have hC2 := hC.NL y
    have j1 : MInv m (NL m τ y) := i2
    have r933 := hC.cm.len
    rw [eT] at r933
    have r938 := hC.2.2.1
    have hjl := (List.getElem?_eq_some_iff.mp hj).1
    refine ⟨_, ?_, hC2⟩
    show f_X9_safe_L12 m a (nI j) τ = _
    unfold f_X9_safe_L12 f_X9_safe_J49_12 f_X9_safe_J50_12 fSa pdM
    cases hg : gM T (mOt m σ) v c0 with
    | none =>
      rw [hg] at e1
      simp (disch := first | exact i2 | exact j1 | omega) [mR900, mR901, mR905, mR906, mR907, mR908, mR909, mR921, mR924, mR925, mR929, mR930, mR931, mR932, mR934, mR935, mR936, mR940, mR949, mR950, mR951, ml_at, ml_names, ml_sort, ml_trayMany, ml_trays, ml_tape, ml_text, ml_opened, ml_now, ml_lies, ml_moveKind, ml_moveOne, ml_moveTwo, ml_moveThird, ml_far, ml_come, ml_good, ml_way, ml_rounds, ml_told0, ml_endAt, ms_at, ms_names, ms_sort, ms_trayMany, ms_trays, ms_tape, ms_text, ms_opened, ms_now, ms_lies, ms_moveKind, ms_moveOne, ms_moveTwo, ms_moveThird, ms_far, ms_come, ms_good, ms_way, ms_rounds, ms_told0, ms_endAt, mgI, mgL, mpI, mpL, mpZ, mvc, bnd2_s, bind_s, rz, lI, mI_eq, nI_add, pk_mul, nlt, nle, neq, nI_mI, mI_nI, nltm, mltn, nsub, zremN, zdivN, r933, r938, hjl, e1, oI]
    | some c' =>
      rw [hg] at e1
      have hc'm := hcls (List.mem_of_getElem? hs0) (gM_mem hj) hg
      have hc' := hB.2.2.1 c' hc'm
      have rg := hC2.2.2.2.2.2 c' hc'm
      cases hgc : G c' with
      | false =>
        rw [hgc] at rg
        have rg : zAI (NL m τ y) (m + 17) c' = nI 0 := rg
        simp (disch := first | exact i2 | exact j1 | omega) [mR900, mR901, mR905, mR906, mR907, mR908, mR909, mR921, mR924, mR925, mR929, mR930, mR931, mR932, mR934, mR935, mR936, mR940, mR949, mR950, mR951, ml_at, ml_names, ml_sort, ml_trayMany, ml_trays, ml_tape, ml_text, ml_opened, ml_now, ml_lies, ml_moveKind, ml_moveOne, ml_moveTwo, ml_moveThird, ml_far, ml_come, ml_good, ml_way, ml_rounds, ml_told0, ml_endAt, ms_at, ms_names, ms_sort, ms_trayMany, ms_trays, ms_tape, ms_text, ms_opened, ms_now, ms_lies, ms_moveKind, ms_moveOne, ms_moveTwo, ms_moveThird, ms_far, ms_come, ms_good, ms_way, ms_rounds, ms_told0, ms_endAt, mgI, mgL, mpI, mpL, mpZ, mvc, bnd2_s, bind_s, rz, lI, mI_eq, nI_add, pk_mul, nlt, nle, neq, nI_mI, mI_nI, nltm, mltn, nsub, zremN, zdivN, r933, r938, hjl, e1, oI, rg, hgc]
      | true =>
        rw [hgc] at rg
        have rg : zAI (NL m τ y) (m + 17) c' = nI 1 := rg
        simp (disch := first | exact i2 | exact j1 | omega) [mR900, mR901, mR905, mR906, mR907, mR908, mR909, mR921, mR924, mR925, mR929, mR930, mR931, mR932, mR934, mR935, mR936, mR940, mR949, mR950, mR951, ml_at, ml_names, ml_sort, ml_trayMany, ml_trays, ml_tape, ml_text, ml_opened, ml_now, ml_lies, ml_moveKind, ml_moveOne, ml_moveTwo, ml_moveThird, ml_far, ml_come, ml_good, ml_way, ml_rounds, ml_told0, ml_endAt, ms_at, ms_names, ms_sort, ms_trayMany, ms_trays, ms_tape, ms_text, ms_opened, ms_now, ms_lies, ms_moveKind, ms_moveOne, ms_moveTwo, ms_moveThird, ms_far, ms_come, ms_good, ms_way, ms_rounds, ms_told0, ms_endAt, mgI, mgL, mpI, mpL, mpZ, mvc, bnd2_s, bind_s, rz, lI, mI_eq, nI_add, pk_mul, nlt, nle, neq, nI_mI, mI_nI, nltm, mltn, nsub, zremN, zdivN, r933, r938, hjl, e1, oI, rg, hgc]
  · have i2 : MInv m τ := hC.1.inv hm
    have r933 := hC.cm.len
    rw [eT] at r933
    show f_X9_safe_L12 m a (nI _) τ = _
    unfold f_X9_safe_L12
    simp (disch := first | exact i2 | omega) [mR900, mR901, mR905, mR906, mR907, mR908, mR909, mR921, mR924, mR925, mR929, mR930, mR931, mR932, mR934, mR935, mR936, mR940, mR949, mR950, mR951, ml_at, ml_names, ml_sort, ml_trayMany, ml_trays, ml_tape, ml_text, ml_opened, ml_now, ml_lies, ml_moveKind, ml_moveOne, ml_moveTwo, ml_moveThird, ml_far, ml_come, ml_good, ml_way, ml_rounds, ml_told0, ml_endAt, ms_at, ms_names, ms_sort, ms_trayMany, ms_trays, ms_tape, ms_text, ms_opened, ms_now, ms_lies, ms_moveKind, ms_moveOne, ms_moveTwo, ms_moveThird, ms_far, ms_come, ms_good, ms_way, ms_rounds, ms_told0, ms_endAt, mgI, mgL, mpI, mpL, mpZ, mvc, bnd2_s, bind_s, rz, lI, mI_eq, nI_add, pk_mul, nlt, nle, neq, nI_mI, mI_nI, nltm, mltn, nsub, zremN, zdivN, r933]
theorem SB.mlen (h : SB x m σ t T B P O) : (mvs T).length ≤ 92 := by
  obtain ⟨K, hK⟩ := h.K
  obtain ⟨-, -, -, hl, -⟩ := h.all hK
  exact hl
theorem pr_lost (h : SB x m σ t T B P O) : Pr x m σ (f_X0_lost x) (f_X9_lost m) := by
  obtain ⟨K, hK⟩ := h.K
  obtain ⟨τ1, G, a0, a1, a2⟩ := p_lost h hK
  have q1 := (SQ.st7 (x := x) (m := m) (nI 0)).trans (SQ.ofFX a2)
  have h2 := h.sq q1
  rw [← mOt_sq q1 h] at hK a1 a0
  obtain ⟨τ2, G', b0, b1, b2⟩ := q_lost h2 hK h.mlen
  rw [a0] at b0
  cases b0
  exact Pr.of h.1 a1 a2 b1 b2
theorem pdM_eq {w w' : Ot} {v : Mv} (hw : gM T w v = gM T w' v) (G : Nat → Bool) (c0 : Nat) : pdM T w G c0 v = pdM T w' G c0 v := by
  unfold pdM
  rw [hw]
theorem fSa_eq1 {w w' : Ot} {v : Mv} (hw : gM T w v = gM T w' v) (G : Nat → Bool) (c0 : Nat) (a : Int32) : fSa T w G c0 a v = fSa T w' G c0 a v := by
  show a + (if pdM T w G c0 v = true then nI 1 else nI 0) = a + (if pdM T w' G c0 v = true then nI 1 else nI 0)
  rw [pdM_eq hw]
theorem foldl_eq {α β : Type} {f g : β → α → β} : ∀ (l : List α) (b : β), (∀ b v, v ∈ l → f b v = g b v) → l.foldl f b = l.foldl g b := by
  intro l
  induction l with
  | nil => intro b _; rfl
  | cons v l ih =>
    intro b h
    rw [List.foldl_cons, List.foldl_cons, h b v List.mem_cons_self]
    exact ih _ (fun b v hv => h b v (List.mem_cons_of_mem _ hv))
theorem fSa_eq {w w' : Ot} (hw : ∀ v, v ∈ mvs T → gM T w v = gM T w' v) (G : Nat → Bool) (c0 : Nat) (a : Int32) : (mvs T).foldl (fSa T w G c0) a = (mvs T).foldl (fSa T w' G c0) a := foldl_eq (mvs T) a (fun b v hv => fSa_eq1 (hw v hv) G c0 b)
theorem pr_safe (h : SB x m σ t T B P O) : Pr x m σ (f_X0_safe x) (f_X9_safe m) := by
  obtain ⟨K, hK⟩ := h.K
  obtain ⟨τ1, G, a0, a1, a2⟩ := p_safe h hK
  have q1 := (SQ.st7 (x := x) (m := m) (nI 0)).trans (SQ.ofFX a2)
  have h2 := h.sq q1
  have hgm : ∀ v, v ∈ mvs T → gM T (mOt m σ) v = gM T (mOt m τ1) v := by
    intro v hv
    have e := mOt_sq q1 h
    unfold msM at e
    exact (List.map_inj_left.mp e v hv).symm
  rw [fSa_eq hgm] at a1
  rw [← mOt_sq q1 h] at hK a0
  obtain ⟨τ2, G', b0, b1, b2⟩ := q_safe h2 hK h.mlen
  rw [a0] at b0
  cases b0
  exact Pr.of h.1 a1 a2 b1 b2
end
