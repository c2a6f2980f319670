set_option maxRecDepth 100000
section
variable {m : Nat} {σ : ZT}
theorem foldl_ms (T : Nat → Int32) (w : Ot) (c d : Nat) (s : Bf) : expA (msM T w) c d s = (mvs T).foldl (fun s v => stepA c d s (gM T w v)) s := by
  unfold expA msM
  rw [List.foldl_map]
theorem CR.t {c0 : Nat} {s : Bf} {τ : ZT} (h : CR m σ c0 s τ) (hm : MInv m σ) : MInv m τ ∧ zAI τ (m + 1) = zAI σ (m + 1) ∧ mOt m τ = mOt m σ := by
  refine ⟨h.1.inv hm, h.1.ai (by omega), ?_⟩
  unfold mOt
  rw [h.1.i (by omega), h.1.i (by omega), h.1.i (by omega)]
/-- a state is seen -/
theorem CR.see {c0 : Nat} {s : Bf} {τ : ZT} (h : CR m σ c0 s τ) {V : Nat → Prop} (hB : BI V 129600 s) {c d : Nat} (hc : V c ∧ c < 129600) (hd : d ≤ s.2.length) (hn : s.1 c = none) : s.2.length < 129600 ∧ CR m σ c0 (seeA d s c) (sI (sAI (sAI τ (m + 15) c (nI d)) (m + 16) s.2.length (nI c)) 937 m (nI (s.2.length + 1))) := by
  have hB2 := (hB.see (d := d) (c := c) hd hc).1.len
  have e : seeA d s c = (fun x => if x = c then some d else s.1 x, s.2 ++ [c]) := by
    unfold seeA
    rw [if_pos hn]
  rw [e] at hB2 ⊢
  obtain ⟨h1, h2, h3, h4, h5, h6⟩ := h
  have hl : s.2.length < 129600 := by
    simp at hB2
    omega
  refine ⟨hl, h1.trans (((FR.sAI (by decide) (by decide) _ _).trans (FR.sAI (by decide) (by decide) _ _)).trans (FR.sI (by decide) (by decide) _)), h2.of ?_ (fun k k1 k2 => ?_), ?_, ?_, fun x hx => ?_, fun i x hi => ?_⟩
  · simp [r_II, zI_sAI]
  · rw [zAI_sI, sAI_r, sAI_r, zAIr_ne _ (by omega), zAIr_ne _ (by omega)]
  · simp [r_II, zI_sAI, h3]
  · simp [r_II]
  · rw [zAI_sI, r_AI, if_neg (by omega), r_AI]
    show _ = oI (if x = c then some d else s.1 x)
    by_cases ex : x = c
    · simp [ex, oI]
    · simp only [ex, and_false, if_false]
      exact h5 x hx
  · rw [zAI_sI, r_AI]
    by_cases ei : i = s.2.length
    · subst ei
      simp at hi
      simp [hi]
    · have hi2 : s.2[i]? = some x := by
        have hlt := (List.getElem?_eq_some_iff.mp hi).1
        simp at hlt
        rwa [List.getElem?_append_left (by omega)] at hi
      simp only [ei, and_false, if_false]
      rw [r_AI, if_neg (by omega)]
      exact h6 i x hi2
/-- all moves from the state number k -/
theorem q_comesL16 (h : MInv m σ) (hT : TW (zAI σ (m + 1))) (hl : (mvs (zAI σ (m + 1))).length ≤ 92) {c0 k c : Nat} {s : Bf} {τ : ZT} (hk : k < 129600) (hkc : s.2[k]? = some c) (hB : BI (VM (zAI σ (m + 1))) 129600 s) (hC : CR m σ c0 s τ) :
    ∃ τ', loopC (fun x : (Int32 × ZT) => f_X9_comes_L16 m (nI k) x.1 x.2) (nI 0, τ) = some τ' ∧ CR m σ c0 (expA (msM (zAI σ (m + 1)) (mOt m σ)) c (dA s c + 1) s) τ' := by
  rw [foldl_ms]
  have hcm : c ∈ s.2 := List.mem_of_getElem? hkc
  have hcV := hB.2.2.1 c hcm
  obtain ⟨d, hd⟩ : ∃ d, s.1 c = some d := Option.ne_none_iff_exists'.mp ((hB.2.1 c).mpr hcm)
  have hdA : dA s c = d := by unfold dA; rw [hd]; rfl
  have hdl := hB.2.2.2 c d hd
  rw [hdA]
  have key := loop_foldl (body := fun x : (Int32 × ZT) => f_X9_comes_L16 m (nI k) x.1 x.2) (L := mvs (zAI σ (m + 1))) (f := fun s v => stepA c (d + 1) s (gM (zAI σ (m + 1)) (mOt m σ) v)) (P := fun t τ => CR m σ c0 t τ ∧ BI (VM (zAI σ (m + 1))) 129600 t ∧ t.2[k]? = some c ∧ t.1 c = some d) (fun j v hj t τ hP => ?_) (fun t τ hP => ?_) s τ ⟨hC, hB, hkc, hd⟩
  · obtain ⟨τ', g1, g2⟩ := key
    exact ⟨τ', g1, g2.1⟩
  · obtain ⟨hC, hB, hkc, hd⟩ := hP
    obtain ⟨i1, i2, i3⟩ := hC.t h
    have hjl : j < 92 := Nat.lt_of_lt_of_le (List.getElem?_eq_some_iff.mp hj).1 hl
    have hjl2 := (List.getElem?_eq_some_iff.mp hj).1
    have hvW := mvs_W (List.mem_of_getElem? hj)
    obtain ⟨x, hmv⟩ := q_moved (c := c) (k := j) (v := v) i1 (by rw [i2]; exact hT) (by omega) (by omega) (by rw [i2]; exact hvW.1) hvW.2 (hC.2.1.2 j v hj) (by rw [i2]; exact hcV.1.1)
    rw [i2, i3] at hmv
    have hC2 := hC.NL x
    have j1 : MInv m (NL m τ x) := i1
    have r933 : zI τ 933 m = nI (mvs (zAI σ (m + 1))).length := hC.2.1.1
    have rcome : zAI τ (m + 16) k = nI c := hC.2.2.2.2.2 k c hkc
    have rcome2 : zAI (NL m τ x) (m + 16) k = nI c := hC2.2.2.2.2.2 k c hkc
    have rfar : zAI (NL m τ x) (m + 15) c = nI d := by
      rw [hC2.2.2.2.2.1 c hcV.2, hd]
      rfl
    have r937 : zI (NL m τ x) 937 m = nI t.2.length := hC2.2.2.2.1
    have hdl := hB.2.2.2 c d hd
    have hBl := hB.len
    show ∃ τ', f_X9_comes_L16 m (nI k) (nI j) τ = _ ∧ CR m σ c0 (stepA c (d + 1) t (gM (zAI σ (m + 1)) (mOt m σ) v)) τ' ∧ _
    unfold f_X9_comes_L16 f_X9_comes_J93_16
    have hg : gM (zAI σ (m + 1)) (mOt m σ) v c = Option.map (enc (zAI σ (m + 1))) (sMv (zAI σ (m + 1)) (mOt m σ) v (dec (zAI σ (m + 1)) c)) := rfl
    rw [← hg] at hmv
    unfold stepA
    cases hgc : gM (zAI σ (m + 1)) (mOt m σ) v c with
    | none =>
      rw [hgc] at hmv
      refine ⟨NL m τ x, ?_, hC2, hB, hkc, hd⟩
      simp (disch := first | exact i1 | exact j1 | omega) [mgI, mR935, ml_come, mvc, r933, rcome, hmv, lI, mI_eq, nI_add, pk_mul, nlt, nle, neq, nI_mI, mI_nI, nltm, mltn, nsub, zremN, zdivN, hjl2, bnd2_s, oI]
    | some c' =>
      rw [hgc] at hmv
      have hc' := Cl_M hT (mOt m σ) _ (List.mem_map.mpr ⟨v, List.mem_of_getElem? hj, rfl⟩) c c' hcV.1 hgc
      have rc' := hC2.2.2.2.2.1 c' hc'.2
      by_cases hn : t.1 c' = none
      · obtain ⟨s1, s2⟩ := hC2.see (d := d + 1) hB hc' (by omega) hn
        obtain ⟨u1, u2⟩ := hB.see (d := d + 1) (c := c') (by omega) hc'
        refine ⟨_, ?_, s2, u1, ?_, u2.2 c d hd⟩
        · rw [hn] at rc'
          simp (disch := first | exact i1 | exact j1 | omega | (simp only [Mi_sI, Mi_sL, Mi_sAI, Mi_sAL, Mi_sAIr, Mi_sALr]; exact j1)) [mgI, mpI, mR934, mR935, ml_come, ml_far, ms_come, ms_far, mvc, r933, rcome, rcome2, rfar, r937, rc', hmv, lI, mI_eq, nI_add, pk_mul, nlt, nle, neq, nI_mI, mI_nI, nltm, mltn, nsub, zremN, zdivN, hjl2, bnd2_s, oI, zI_sAI]
        · obtain ⟨⟨l, hl'⟩, -⟩ := u2
          rw [hl', List.getElem?_append_left (List.getElem?_eq_some_iff.mp hkc).1]
          exact hkc
      · have e : seeA (d + 1) t c' = t := by
          unfold seeA
          rw [if_neg hn]
        obtain ⟨d', hd'⟩ := Option.ne_none_iff_exists'.mp hn
        have hd'l := hB.2.2.2 c' d' hd'
        rw [hd'] at rc'
        show ∃ τ', _ ∧ CR m σ c0 (seeA (d + 1) t c') τ' ∧ BI (VM (zAI σ (m + 1))) 129600 (seeA (d + 1) t c') ∧ (seeA (d + 1) t c').2[k]? = some c ∧ (seeA (d + 1) t c').1 c = some d
        rw [e]
        refine ⟨NL m τ x, ?_, hC2, hB, hkc, hd⟩
        simp (disch := first | exact i1 | exact j1 | omega) [mgI, mR934, mR935, ml_come, ml_far, mvc, r933, rcome, rc', hmv, lI, mI_eq, nI_add, pk_mul, nlt, nle, neq, nI_mI, mI_nI, nltm, mltn, nsub, zremN, zdivN, hjl2, bnd2_s, oI]
  · obtain ⟨hC, hB, hkc, hd⟩ := hP
    obtain ⟨i1, i2, i3⟩ := hC.t h
    have r933 : zI τ 933 m = nI (mvs (zAI σ (m + 1))).length := hC.2.1.1
    unfold f_X9_comes_L16
    simp (disch := first | exact i1 | omega) [mgI, r933, lI, mI_eq, nI_add, pk_mul, nlt, nle, neq, nI_mI, mI_nI, nltm, mltn, nsub, zremN, zdivN]
theorem q_comes (h : MInv m σ) (hT : TW (zAI σ (m + 1))) (hS : SV (zAI σ (m + 1)) (nowS (zAI σ (m + 1)))) : ∃ τ K, f_X9_comes m σ = some τ ∧ BE (msM (zAI σ (m + 1)) (mOt m σ)) (enc (zAI σ (m + 1)) (nowS (zAI σ (m + 1)))) K ∧ CR m σ (enc (zAI σ (m + 1)) (nowS (zAI σ (m + 1)))) (bfsK (msM (zAI σ (m + 1)) (mOt m σ)) (b0 (enc (zAI σ (m + 1)) (nowS (zAI σ (m + 1))))) K) τ := by
  obtain ⟨τ0, a0, C0⟩ := q_starts h hT hS
  have hV := VM_enc hT hS
  obtain ⟨-, -, -, -, hl⟩ := q_laysMoves h hT
  generalize enc (zAI σ (m + 1)) (nowS (zAI σ (m + 1))) = c0 at *
  have hm := Cl_M hT (mOt m σ)
  have key := loop_inv (body := fun s : (Int32 × ZT) => f_X9_comes_L6 m s.1 s.2) (fun s => ∃ k, s.1 = nI k ∧ k ≤ (bfsK (msM (zAI σ (m + 1)) (mOt m σ)) (b0 c0) k).2.length ∧ (∀ j, j < k → j < (bfsK (msM (zAI σ (m + 1)) (mOt m σ)) (b0 c0) j).2.length) ∧ CR m σ c0 (bfsK (msM (zAI σ (m + 1)) (mOt m σ)) (b0 c0) k) s.2) (fun s => 129600 - s.1.toNatClampNeg) (fun τ => ∃ K, BE (msM (zAI σ (m + 1)) (mOt m σ)) c0 K ∧ CR m σ c0 (bfsK (msM (zAI σ (m + 1)) (mOt m σ)) (b0 c0) K) τ) (fun s hI => ?_) (nI 0, τ0) ⟨0, rfl, Nat.zero_le _, fun j hj => absurd hj (Nat.not_lt_zero j), C0⟩
  · obtain ⟨τ', g1, K, g2, g3⟩ := key
    refine ⟨τ', K, ?_, g2, g3⟩
    unfold f_X9_comes
    simp only [mvc h, a0, bind_s, lI, g1]
  · obtain ⟨i, τ⟩ := s
    obtain ⟨k, hk, hle, hj, hC⟩ := hI
    have hk : i = nI k := hk
    subst hk
    have hC : CR m σ c0 (bfsK (msM (zAI σ (m + 1)) (mOt m σ)) (b0 c0) k) τ := hC
    obtain ⟨i1, i2, i3⟩ := hC.t h
    have hB := (bfsK_inv hm hV k).1
    have hBl := hB.len
    have r937 := hC.2.2.2.1
    show ∃ x, f_X9_comes_L6 m (nI k) τ = some x ∧ _
    unfold f_X9_comes_L6
    by_cases hlt : k < (bfsK (msM (zAI σ (m + 1)) (mOt m σ)) (b0 c0) k).2.length
    · obtain ⟨c, hc⟩ : ∃ c, (bfsK (msM (zAI σ (m + 1)) (mOt m σ)) (b0 c0) k).2[k]? = some c := ⟨_, List.getElem?_eq_getElem hlt⟩
      obtain ⟨τ1, b1, b2⟩ := q_comesL16 (k := k) h hT hl (by omega) hc hB hC
      refine ⟨.inl (nI (k + 1), τ1), ?_, ⟨k + 1, rfl, ?_, ?_, ?_⟩, ?_⟩
      · simp (disch := first | exact i1 | omega) [mgI, r937, lI, mI_eq, nI_add, pk_mul, nlt, nle, neq, nI_mI, mI_nI, nltm, mltn, nsub, zremN, zdivN, hlt, b1]
      · obtain ⟨⟨l, hl'⟩, -⟩ := (bfsK_inv hm hV k).2
        rw [hl', List.length_append]
        omega
      · intro j hj2
        by_cases ej : j = k
        · subst ej; exact hlt
        · exact hj j (by omega)
      · show CR m σ c0 (match (bfsK (msM (zAI σ (m + 1)) (mOt m σ)) (b0 c0) k).2[k]? with | none => bfsK (msM (zAI σ (m + 1)) (mOt m σ)) (b0 c0) k | some c => expA (msM (zAI σ (m + 1)) (mOt m σ)) c (dA (bfsK (msM (zAI σ (m + 1)) (mOt m σ)) (b0 c0) k) c + 1) (bfsK (msM (zAI σ (m + 1)) (mOt m σ)) (b0 c0) k)) τ1
        rw [hc]
        exact b2
      · show 129600 - (nI (k + 1)).toNatClampNeg < 129600 - (nI k).toNatClampNeg
        rw [nI_clamp (by omega), nI_clamp (by omega)]
        omega
    · refine ⟨.inr τ, ?_, k, ⟨by omega, hj⟩, hC⟩
      simp (disch := first | exact i1 | omega) [mgI, r937, lI, mI_eq, nI_add, pk_mul, nlt, nle, neq, nI_mI, mI_nI, nltm, mltn, nsub, zremN, zdivN]
      intro hh
      exact absurd hh hlt
end
