set_option maxRecDepth 100000
def o1 (o : Option Nat) : Nat := match o with
  | none => 0
  | some k => k + 1
/-- a move as the model writes it down -/
def wenc (v : Mv) : Nat := 1000 * v.1 + 100 * v.2.1 + 10 * o1 v.2.2.1 + o1 v.2.2.2
theorem oI_p1 {o : Option Nat} : oI o + nI 1 = nI (o1 o) := by
  cases o with
  | none => rfl
  | some k =>
    show nI k + nI 1 = nI (k + 1)
    rw [nI_add]
theorem wenc_eq (v : Mv) : (((nI 1000 * nI v.1 + nI 100 * nI v.2.1) + nI 10 * (oI v.2.2.1 + nI 1)) + oI v.2.2.2) + nI 1 = nI (wenc v) := by
  rw [Int32.add_assoc (a := nI 1000 * nI v.1 + nI 100 * nI v.2.1 + nI 10 * (oI v.2.2.1 + nI 1)), oI_p1, oI_p1]
  unfold wenc
  simp only [pk_mul, nI_add]
section
variable {x m t : Nat} {σ τ : ZT} {T : Nat → Int32} {B P O : Nat → Nat} {L : List Nat} {F : Nat → Option Nat} {c0 : Nat}
theorem q_first (h : SB x m σ t T B P O) :
    (∃ τ, f_X9_first m σ = some (mI, sI τ 902 m (nI 6)) ∧ FR m 933 938 9 17 σ τ ∧ ∀ j, ¬ lp (msM T (mOt m σ)) (dn T) j (enc T (nowS T))) ∨
    (∃ D ks τ, f_X9_first m σ = some (nI D, sI τ 902 m (nI 0)) ∧ FR m 933 939 9 18 σ τ ∧ lp (msM T (mOt m σ)) (dn T) D (enc T (nowS T)) ∧ (∀ j, j < D → ¬ lp (msM T (mOt m σ)) (dn T) j (enc T (nowS T))) ∧ WK T (mOt m σ) D (enc T (nowS T)) ks ∧ (∀ n k v, ks[n]? = some k → (mvs T)[k]? = some v → zAI τ (m + 18) n = nI (wenc v)) ∧ zI τ 939 m = nI D) := by
  have hT := h.2.2.2.2.2.1
  have hS := h.2.2.2.2.2.2.1
  have hl := h.mlen
  have hm : MInv m σ := h.2.2.2.1
  have eT : zAI σ (m + 1) = T := h.2.2.2.2.1
  have hV := VM_enc hT hS
  have hcm := Cl_M hT (mOt m σ)
  obtain ⟨K, hK⟩ := h.K
  obtain ⟨τ1, a1, C1⟩ := h.mall hK
  have hB := (bfsK_inv hcm hV K).1
  have hs0 := (BE.start hcm hV K).1
  have hcls := fun {c} (hc : c ∈ (bfsK (msM T (mOt m σ)) (b0 (enc T (nowS T))) K).2) => @BE.closed (VM T) 129600 (msM T (mOt m σ)) hcm (enc T (nowS T)) K hV hK c hc
  generalize bfsK (msM T (mOt m σ)) (b0 (enc T (nowS T))) K = s at *
  generalize enc T (nowS T) = c0 at *
  have hBl := hB.len
  have hc0 := List.mem_of_getElem? hs0
  have hLV : ∀ c, c ∈ s.2 → VM T c := fun c hc => (hB.2.2.1 c hc).1
  subst eT
  obtain ⟨F, τ2, b1, Q2, R2, S2⟩ := q_leaves hm hT hl hB (fun c hc v hv c' e => hcls hc (List.mem_map.mpr ⟨v, hv, rfl⟩) e) C1
  have hleast := R2.least (fun c hc f hf c' e => hcls hc hf e) S2
  have i1 : MInv m τ1 := C1.1.inv hm
  have i2 : MInv m τ2 := (Q2.1.tt hm).1
  have r938 := Q2.2.2.1
  have rf0 := Q2.2.2.2.2 c0 hc0
  have hc0l := VM_lt hT (hLV c0 hc0)
  cases hF0 : F c0 with
  | none =>
    left
    rw [hF0] at rf0
    have rf0 : zAI τ2 (m + 15) c0 = mI := rf0
    refine ⟨τ2, ?_, Q2.1.1, fun j hj => ?_⟩
    · unfold f_X9_first f_X9_refuse
      simp (disch := first | exact hm | exact i1 | exact i2 | omega) only [mvc, a1, bind_s, b1, mR934, mgI, r938, ml_far, rf0, lI, mI_eq, if_true, mpI, bnd2_s]
    · obtain ⟨i, e, -⟩ := hleast j c0 hc0 hj
      rw [hF0] at e
      cases e
  | some D =>
    right
    rw [hF0] at rf0
    have rf0 : zAI τ2 (m + 15) c0 = nI D := rf0
    have hDb := R2.bd hBl hc0 hF0
    -- the way
    have k2 := loop_gh (body := fun y : (Int32 × Int32 × ZT) => f_X9_first_L35 m y.1 y.2.1 y.2.2) (fun (g : Nat × Nat × List Nat) (y : Int32 × Int32 × ZT) => y.1 = nI g.2.1 ∧ y.2.1 = nI g.2.2.length ∧ g.2.1 ∈ s.2 ∧ F g.2.1 = some g.1 ∧ g.1 + g.2.2.length = D ∧ FR m 933 939 9 18 σ y.2.2 ∧ ML m y.2.2 (mvs (zAI σ (m + 1))) ∧ (∀ c, c ∈ s.2 → zAI y.2.2 (m + 15) c = oI (F c)) ∧ (∀ n k v, g.2.2[n]? = some k → (mvs (zAI σ (m + 1)))[k]? = some v → zAI y.2.2 (m + 18) n = nI (wenc v)) ∧ ∀ r, WK (zAI σ (m + 1)) (mOt m σ) g.1 g.2.1 r → WK (zAI σ (m + 1)) (mOt m σ) D c0 (g.2.2 ++ r)) (fun g => g.1) (fun o => o.1 = nI D ∧ ∃ ks, WK (zAI σ (m + 1)) (mOt m σ) D c0 ks ∧ (∀ n k v, ks[n]? = some k → (mvs (zAI σ (m + 1)))[k]? = some v → zAI o.2 (m + 18) n = nI (wenc v)) ∧ FR m 933 939 9 18 σ o.2) (fun g y hI => ?_) (D, c0, []) (nI c0, nI 0, τ2) ⟨rfl, rfl, hc0, hF0, rfl, Q2.1.1.mono (by omega) (by omega) (by omega) (by omega), Q2.1.2, Q2.2.2.2.2, fun n k v hn => by simp at hn, fun r hr => hr⟩
    · obtain ⟨⟨o, τ3⟩, d1, d2, ks, d3, d4, d5⟩ := k2
      have d2 : o = nI D := d2
      subst d2
      have i3 : MInv m τ3 := d5.inv hm
      refine ⟨D, ks, sI τ3 939 m (nI D), ?_, d5.trans (FR.sI (by omega) (by omega) _), R2.1 c0 D hc0 hF0, fun j hj hlj => ?_, d3, d4, ?_⟩
      · have i4 : MInv m (sI τ3 939 m (nI D)) := i3
        have hne : ¬ nI D = mI := fun hh => by rw [nI_mI (by omega)] at hh; exact hh
        unfold f_X9_first f_X9_gives
        simp (disch := first | exact hm | exact i1 | exact i2 | exact i3 | exact i4 | omega) only [mvc, a1, bind_s, b1, mR934, mgI, r938, ml_far, rf0, lI, mI_eq, hne, if_false, d1, mpI, bnd2_s]
      · obtain ⟨i, e, hle⟩ := hleast j c0 hc0 hlj
        rw [hF0] at e
        cases e
        omega
      · rw [r_II, if_pos ⟨rfl, rfl⟩]
    · obtain ⟨j, c, ks⟩ := g
      obtain ⟨y1, y2, τ⟩ := y
      obtain ⟨g1, g2, g3, g4, g5, g6, g7, g8, g9, g10⟩ := hI
      have g1 : y1 = nI c := g1
      have g2 : y2 = nI ks.length := g2
      have g3 : c ∈ s.2 := g3
      have g4 : F c = some j := g4
      have g5 : j + ks.length = D := g5
      have g6 : FR m 933 939 9 18 σ τ := g6
      have g7 : ML m τ (mvs (zAI σ (m + 1))) := g7
      have g8 : ∀ c, c ∈ s.2 → zAI τ (m + 15) c = oI (F c) := g8
      have g9 : ∀ n k v, ks[n]? = some k → (mvs (zAI σ (m + 1)))[k]? = some v → zAI τ (m + 18) n = nI (wenc v) := g9
      have g10 : ∀ r, WK (zAI σ (m + 1)) (mOt m σ) j c r → WK (zAI σ (m + 1)) (mOt m σ) D c0 (ks ++ r) := g10
      subst g1 g2
      have i3 : MInv m τ := g6.inv hm
      have e1 : zAI τ (m + 1) = zAI σ (m + 1) := g6.ai (by omega)
      have eo : mOt m τ = mOt m σ := by
        unfold mOt
        rw [g6.i (by omega), g6.i (by omega), g6.i (by omega)]
      have hcl2 := VM_lt hT (hLV c g3)
      have rf := g8 c g3
      rw [g4] at rf
      have rf : zAI τ (m + 15) c = nI j := rf
      have hjb := R2.bd hBl g3 g4
      show ∃ y, f_X9_first_L35 m (nI c) (nI ks.length) τ = some y ∧ _
      unfold f_X9_first_L35
      cases j with
      | zero =>
        refine ⟨.inr (nI ks.length, τ), ?_, ?_, ks, ?_, g9, g6⟩
        · simp (disch := first | exact i3 | omega) [mR900, mR901, mR905, mR906, mR907, mR908, mR909, mR921, mR924, mR925, mR929, mR930, mR931, mR932, mR934, mR935, mR936, mR940, mR949, mR950, mR951, ml_at, ml_names, ml_sort, ml_trayMany, ml_trays, ml_tape, ml_text, ml_opened, ml_now, ml_lies, ml_moveKind, ml_moveOne, ml_moveTwo, ml_moveThird, ml_far, ml_come, ml_good, ml_way, ml_rounds, ml_told0, ml_endAt, ms_at, ms_names, ms_sort, ms_trayMany, ms_trays, ms_tape, ms_text, ms_opened, ms_now, ms_lies, ms_moveKind, ms_moveOne, ms_moveTwo, ms_moveThird, ms_far, ms_come, ms_good, ms_way, ms_rounds, ms_told0, ms_endAt, mgI, mgL, mpI, mpL, mpZ, mvc, bnd2_s, bind_s, rz, lI, mI_eq, nI_add, pk_mul, nlt, nle, neq, nI_mI, mI_nI, nltm, mltn, nsub, zremN, zdivN, rf]
        · show nI ks.length = nI D
          rw [← g5, Nat.zero_add]
        · have := g10 [] rfl
          rw [List.append_nil] at this
          exact this
      | succ j =>
        have hCM : CM m τ τ := ⟨FR.refl _, by rw [e1]; exact g7⟩
        have hll : ∀ c', (∃ f, f ∈ msM (zAI σ (m + 1)) (mOt m σ) ∧ f c = some c') → (F c' = some j ↔ lp (msM (zAI σ (m + 1)) (mOt m σ)) (dn (zAI σ (m + 1))) j c') := by
          rintro c' ⟨f, hf, e⟩
          have hc' := hcls g3 hf e
          constructor
          · exact R2.1 c' j hc'
          · intro hlp
            obtain ⟨i, h1, h2⟩ := hleast j c' hc' hlp
            obtain ⟨i', h3, h4⟩ := S2 c g3 f c' i hf e h1
            rw [g4] at h3
            cases h3
            have : i = j := by omega
            rw [← this]; exact h1
        -- there is one
        obtain ⟨iw, vw, cw, w1, w2, w3⟩ : ∃ (i : Nat) (v : Mv) (c' : Nat), (mvs (zAI σ (m + 1)))[i]? = some v ∧ gM (zAI σ (m + 1)) (mOt m σ) v c = some c' ∧ lp (msM (zAI σ (m + 1)) (mOt m σ)) (dn (zAI σ (m + 1))) j c' := by
          obtain ⟨f, c', f1, f2, f3⟩ := R2.1 c (j + 1) g3 g4
          obtain ⟨v, hv, ev⟩ := List.mem_map.mp f1
          obtain ⟨i, hi⟩ := List.mem_iff_getElem?.mp hv
          rw [← ev] at f2
          exact ⟨i, v, c', hi, f2, f3⟩
        have hwl := (List.getElem?_eq_some_iff.mp w1).1
        have hmvd : ∀ i v, (mvs (zAI σ (m + 1)))[i]? = some v → ∀ yy, ∃ yy', f_X9_moved m (nI c) (nI i) (NL m τ yy) = some (oI (gM (zAI σ (m + 1)) (mOt m σ) v c), NL m τ yy') := by
          intro i v hi yy
          obtain ⟨yy', e⟩ := cm_mv (hCM.NL yy) i3 (by rw [e1]; exact hT) (by rw [e1]; exact hl) (c := c) (j := i) (v := v) (by rw [e1]; exact hLV c g3) (by rw [e1]; exact hi)
          rw [e1, eo, NL_NL] at e
          exact ⟨yy', e⟩
        obtain ⟨v0, hv0⟩ : ∃ v, (mvs (zAI σ (m + 1)))[0]? = some v := ⟨_, List.getElem?_eq_getElem (by omega)⟩
        obtain ⟨yy0, f0⟩ := hmvd 0 v0 hv0 (zAI τ (m + 9), zAI τ (m + 10))
        rw [NL_self] at f0
        have k3 := loop_gh (body := fun y : (Int32 × Int32 × ZT) => f_X9_first_L54 m (nI c) (nI ks.length) y.1 y.2.1 y.2.2) (fun (i : Nat) (y : Int32 × Int32 × ZT) => y.1 = nI i ∧ (∃ v, (mvs (zAI σ (m + 1)))[i]? = some v ∧ y.2.1 = oI (gM (zAI σ (m + 1)) (mOt m σ) v c)) ∧ (∃ yy, y.2.2 = NL m τ yy) ∧ ∀ i' v' c'', i' < i → (mvs (zAI σ (m + 1)))[i']? = some v' → gM (zAI σ (m + 1)) (mOt m σ) v' c = some c'' → ¬ lp (msM (zAI σ (m + 1)) (mOt m σ)) (dn (zAI σ (m + 1))) j c'') (fun i => (mvs (zAI σ (m + 1))).length - i) (fun o => ∃ k c' yy, o = (nI k, nI c', NL m τ yy) ∧ c' ∈ s.2 ∧ F c' = some j ∧ k < (mvs (zAI σ (m + 1))).length ∧ Nx (zAI σ (m + 1)) (mOt m σ) c j k c') (fun i y hI => ?_) 0 (nI 0, oI (gM (zAI σ (m + 1)) (mOt m σ) v0 c), NL m τ yy0) ⟨rfl, ⟨v0, hv0, rfl⟩, ⟨yy0, rfl⟩, fun i' v' c'' hi' => absurd hi' (Nat.not_lt_zero i')⟩
        · obtain ⟨o, d1, k, c', yy, d2, d3, d4, d5, d6⟩ := k3
          subst d2
          obtain ⟨v, hkv⟩ : ∃ v, (mvs (zAI σ (m + 1)))[k]? = some v := ⟨_, List.getElem?_eq_getElem d5⟩
          have i4 : MInv m (NL m τ yy) := i3
          obtain ⟨m1, m2, m3, m4⟩ := g7.2 k v hkv
          have m1' : zAI (NL m τ yy) (m + 11) k = nI v.1 := by rw [NL_ne _ (by omega) (by omega)]; exact m1
          have m2' : zAI (NL m τ yy) (m + 12) k = nI v.2.1 := by rw [NL_ne _ (by omega) (by omega)]; exact m2
          have m3' : zAI (NL m τ yy) (m + 13) k = oI v.2.2.1 := by rw [NL_ne _ (by omega) (by omega)]; exact m3
          have m4' : zAI (NL m τ yy) (m + 14) k = oI v.2.2.2 := by rw [NL_ne _ (by omega) (by omega)]; exact m4
          have g6' : FR m 933 939 9 18 σ (sAI (NL m τ yy) (m + 18) ks.length (nI (wenc v))) := (g6.trans (FR.NL (by omega) (by omega) yy)).trans (FR.sAI (by omega) (by omega) _ _)
          have hne : ∀ a, a ≠ m + 9 → a ≠ m + 10 → a ≠ m + 18 → zAI (sAI (NL m τ yy) (m + 18) ks.length (nI (wenc v))) a = zAI τ a := by
            intro a n1 n2 n3
            rw [sAI_r, zAIr_ne _ n3, NL_ne _ n1 n2]
          refine ⟨.inl (nI c', nI (ks.length + 1), sAI (NL m τ yy) (m + 18) ks.length (nI (wenc v))), ?_, (j, c', ks ++ [k]), ⟨rfl, ?_, d3, d4, ?_, g6', g7.of rfl (fun i n1 n2 => hne _ (by omega) (by omega) (by omega)), ?_, ?_, ?_⟩, ?_⟩
          · have hst : stI (m + 18) (nI ks.length) (nI (wenc v)) (NL m τ yy) = some (sAI (NL m τ yy) (m + 18) ks.length (nI (wenc v))) := ms_way i4 (by omega) _
            have hpos : (nI 0 < nI (j + 1)) = True := by
              rw [nlt (by omega) (by omega)]
              exact eq_true (by omega)
            simp (disch := first | exact i3 | exact i4 | omega) only [mR934, bind_s, ml_far, rf, lI, hpos, if_true, mvc, f0, bnd2_s, d1, mR940, mR929, ml_moveKind, m1', mR930, ml_moveOne, m2', mR931, ml_moveTwo, m3', mR932, ml_moveThird, m4', wenc_eq, hst, nI_add]
          · show nI (ks.length + 1) = nI (ks ++ [k]).length
            rw [List.length_append]; rfl
          · show j + (ks ++ [k]).length = D
            rw [List.length_append, List.length_singleton]; omega
          · intro d hd
            show zAI (sAI (NL m τ yy) (m + 18) ks.length (nI (wenc v))) (m + 15) d = _
            rw [hne _ (by omega) (by omega) (by omega)]; exact g8 d hd
          · intro n k' v' hn hv'
            have hn : (ks ++ [k])[n]? = some k' := hn
            show zAI (sAI (NL m τ yy) (m + 18) ks.length (nI (wenc v))) (m + 18) n = nI (wenc v')
            rw [r_AI]
            by_cases e : n = ks.length
            · rw [if_pos ⟨rfl, e⟩]
              rw [e, List.getElem?_append_right (Nat.le_refl _), Nat.sub_self] at hn
              have e2 : k = k' := by simpa using hn
              rw [← e2, hkv] at hv'
              cases hv'
              rfl
            · rw [if_neg (fun hh => e hh.2), NL_ne _ (by omega) (by omega)]
              have hlt := (List.getElem?_eq_some_iff.mp hn).1
              rw [List.length_append, List.length_singleton] at hlt
              rw [List.getElem?_append_left (by omega)] at hn
              exact g9 n k' v' hn hv'
          · intro r hr
            show WK _ _ D c0 ((ks ++ [k]) ++ r)
            rw [List.append_assoc]
            exact g10 _ ⟨k, c', r, rfl, d6, hr⟩
          · show j < j + 1
            omega
        · obtain ⟨z1, z2, τz⟩ := y
          obtain ⟨p1, ⟨v, hv, p2⟩, ⟨yy, p3⟩, p4⟩ := hI
          have p1 : z1 = nI i := p1
          have p2 : z2 = oI (gM (zAI σ (m + 1)) (mOt m σ) v c) := p2
          have p3 : τz = NL m τ yy := p3
          subst p1 p2 p3
          have i4 : MInv m (NL m τ yy) := i3
          have hil := (List.getElem?_eq_some_iff.mp hv).1
          -- the next one is looked at
          have nxt : (∀ c'', gM (zAI σ (m + 1)) (mOt m σ) v c = some c'' → ¬ lp (msM (zAI σ (m + 1)) (mOt m σ)) (dn (zAI σ (m + 1))) j c'') → ∃ v' yy', (mvs (zAI σ (m + 1)))[i + 1]? = some v' ∧ f_X9_first_J78_54 m (nI c) (nI ks.length) (nI i) (NL m τ yy) = some (.inl (nI (i + 1), oI (gM (zAI σ (m + 1)) (mOt m σ) v' c), NL m τ yy')) ∧ ∀ i' v' c'', i' < i + 1 → (mvs (zAI σ (m + 1)))[i']? = some v' → gM (zAI σ (m + 1)) (mOt m σ) v' c = some c'' → ¬ lp (msM (zAI σ (m + 1)) (mOt m σ)) (dn (zAI σ (m + 1))) j c'' := by
            intro hno
            have hb : ∀ i' v' c'', i' < i + 1 → (mvs (zAI σ (m + 1)))[i']? = some v' → gM (zAI σ (m + 1)) (mOt m σ) v' c = some c'' → ¬ lp (msM (zAI σ (m + 1)) (mOt m σ)) (dn (zAI σ (m + 1))) j c'' := by
              intro i' v' c'' hi' hv' hc''
              by_cases e : i' = i
              · subst e
                rw [hv] at hv'
                cases hv'
                exact hno c'' hc''
              · exact p4 i' v' c'' (by omega) hv' hc''
            have hiw : i < iw := by
              by_cases e : i < iw
              · exact e
              · exact absurd w3 (hb iw vw cw (by omega) w1 w2)
            obtain ⟨v', hv'⟩ : ∃ v, (mvs (zAI σ (m + 1)))[i + 1]? = some v := ⟨_, List.getElem?_eq_getElem (by omega)⟩
            obtain ⟨yy', f1⟩ := hmvd (i + 1) v' hv' yy
            refine ⟨v', yy', hv', ?_, hb⟩
            unfold f_X9_first_J78_54
            simp (disch := first | exact i4 | omega) only [mvc, lI, nI_add, f1, bnd2_s]
          show ∃ y, f_X9_first_L54 m (nI c) (nI ks.length) (nI i) (oI (gM (zAI σ (m + 1)) (mOt m σ) v c)) (NL m τ yy) = some y ∧ _
          unfold f_X9_first_L54
          cases hg : gM (zAI σ (m + 1)) (mOt m σ) v c with
          | none =>
            obtain ⟨v', yy', n1, n2, n3⟩ := nxt (fun c'' h1 => by rw [hg] at h1; cases h1)
            rw [if_pos (show oI none = -1 from rfl)]
            exact ⟨_, n2, i + 1, ⟨rfl, ⟨v', n1, rfl⟩, ⟨yy', rfl⟩, n3⟩, by omega⟩
          | some c' =>
            have hfm : gM (zAI σ (m + 1)) (mOt m σ) v ∈ msM (zAI σ (m + 1)) (mOt m σ) := gM_mem hv
            have hc' := hcls g3 hfm hg
            have hc'l := VM_lt hT (hLV c' hc')
            have hiff := hll c' ⟨_, hfm, hg⟩
            have hne1 : ¬ oI (some c') = -1 := fun hh => by
              have hh : nI c' = mI := hh
              rw [nI_mI (by omega)] at hh
              exact hh
            have rfc : zAI (NL m τ yy) (m + 15) c = nI (j + 1) := by rw [NL_ne _ (by omega) (by omega)]; exact rf
            have rfc' : zAI (NL m τ yy) (m + 15) c' = oI (F c') := by rw [NL_ne _ (by omega) (by omega)]; exact g8 c' hc'
            have hinj : (oI (F c') = nI j) = (F c' = some j) := oI_inj (b := some j) (fun u hu => by have := R2.bd hBl hc' hu; omega) (fun u hu => by cases hu; omega)
            rw [if_neg hne1]
            show ∃ y, (gR 9 934 m (NL m τ yy)).bind (fun v15 => (ldI 0 v15 (nI c') (NL m τ yy)).bind fun v16 => (gR 9 934 m (NL m τ yy)).bind fun v17 => (ldI 0 v17 (nI c) (NL m τ yy)).bind fun v18 => if v16 = v18 - 1 then some (Sum.inr (nI i, nI c', NL m τ yy)) else f_X9_first_J78_54 m (nI c) (nI ks.length) (nI i) (NL m τ yy)) = some y ∧ _
            have hsub : nI (j + 1) - nI 1 = nI j := by rw [nsub (by omega)]; rfl
            simp (disch := first | exact i4 | omega) only [mR934, bind_s, ml_far, rfc, rfc', lI, hsub, hinj]
            by_cases hy : F c' = some j
            · rw [if_pos hy]
              exact ⟨_, rfl, i, c', yy, rfl, hc', hy, hil, v, hv, hg, hiff.mp hy, p4⟩
            · rw [if_neg hy]
              obtain ⟨v', yy', n1, n2, n3⟩ := nxt (fun c'' h1 => by rw [hg] at h1; cases h1; exact fun hlp => hy (hiff.mpr hlp))
              exact ⟨_, n2, i + 1, ⟨rfl, ⟨v', n1, rfl⟩, ⟨yy', rfl⟩, n3⟩, by omega⟩
end
