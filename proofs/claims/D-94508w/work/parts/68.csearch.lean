set_option maxRecDepth 100000
/-! ===== the component's search: what may change; its arrays ===== -/
def tOK (x t : Nat) : Prop := t = x + 11 ∨ x + 78 ≤ t
def FX (x : Nat) (σ σ' : ZT) : Prop := zK σ' = zK σ ∧ zL σ' = zL σ ∧ zAL σ' = zAL σ ∧ zAR σ' = zAR σ ∧ zN σ' = zN σ ∧ (zsz σ' = zsz σ ∧ zbc σ' = zbc σ ∧ zbs σ' = zbs σ) ∧ (∀ f a, ¬ (f = 500 ∧ a = x + 25) → zR σ' f a = zR σ f a) ∧ (∀ f a, ¬ (f = 18 ∧ a = x) → ¬ (f = 704 ∧ a = x + 20) → zI σ' f a = zI σ f a) ∧ ∀ a, ¬ (x + 21 ≤ a ∧ a ≤ x + 24) → ¬ (x + 32 ≤ a ∧ a ≤ x + 37) → zAI σ' a = zAI σ a
section
variable {x t : Nat} {σ σ' σ'' : ZT} {T : Nat → Int32} {B P O : Nat → Nat}
theorem FX.refl (σ : ZT) : FX x σ σ := ⟨rfl, rfl, rfl, rfl, rfl, ⟨rfl, rfl, rfl⟩, fun _ _ _ => rfl, fun _ _ _ _ => rfl, fun _ _ _ => rfl⟩
theorem FX.trans (h : FX x σ σ') (g : FX x σ' σ'') : FX x σ σ'' := by
  obtain ⟨h1, h2, h3, h4, h5, ⟨h6, h7, h8⟩, h9, h10, h11⟩ := h
  obtain ⟨g1, g2, g3, g4, g5, ⟨g6, g7, g8⟩, g9, g10, g11⟩ := g
  exact ⟨g1.trans h1, g2.trans h2, g3.trans h3, g4.trans h4, g5.trans h5, ⟨g6.trans h6, g7.trans h7, g8.trans h8⟩, fun f a hn => (g9 f a hn).trans (h9 f a hn), fun f a hn hm => (g10 f a hn hm).trans (h10 f a hn hm), fun a hn hm => (g11 a hn hm).trans (h11 a hn hm)⟩
theorem FX.sI18 (v : Int32) : FX x σ (sI σ 18 x v) := by
  refine ⟨rfl, rfl, rfl, rfl, rfl, ⟨rfl, rfl, rfl⟩, fun _ _ _ => rfl, fun f a hn _ => ?_, fun _ _ _ => rfl⟩
  rw [r_II, if_neg hn]
theorem FX.sR500 (v : Option Nat) : FX x σ (sR σ 500 (x + 25) v) := by
  refine ⟨rfl, rfl, rfl, rfl, rfl, ⟨rfl, rfl, rfl⟩, fun f a hn => ?_, fun _ _ _ _ => rfl, fun _ _ _ => rfl⟩
  rw [r_RR, if_neg hn]
theorem FX.air {k : Nat} (hk : 32 ≤ k ∧ k ≤ 37) (r : Nat → Int32) : FX x σ (sAIr σ (x + k) r) := ⟨rfl, rfl, rfl, rfl, rfl, ⟨rfl, rfl, rfl⟩, fun _ _ _ => rfl, fun _ _ _ _ => rfl, fun a hn hm => zAIr_ne _ (by omega)⟩
theorem FX.ai {k : Nat} (hk : 32 ≤ k ∧ k ≤ 37) (i : Nat) (v : Int32) : FX x σ (sAI σ (x + k) i v) := by
  rw [sAI_r]; exact FX.air hk _
theorem FX.cn (s : St) : FX x σ (CN (x + 32) (x + 33) σ s) := (FX.air (k := 33) (by omega) _).trans (FX.air (k := 32) (by omega) _)
theorem FX.ofFR (h : FR (x + 20) 704 704 1 4 σ σ') : FX x σ σ' := by
  obtain ⟨h1, h2, h3, h4, h5, h6, h7, h8, h9⟩ := h
  exact ⟨h1, h2, h4, h5, h6, h7, fun f a _ => by rw [h3], fun f a _ hm => h8 f a (by omega), fun a hn hm => h9 a (by omega)⟩
theorem cRf_ne : ∀ k, k < 33 → cRf.getD k 0 ≠ 500 := by decide
theorem FX.cinv (h : FX x σ σ') (g : CInv x σ) : CInv x σ' := by
  obtain ⟨h1, h2, h3, h4, h5, h6, h9, h10, h11⟩ := h
  obtain ⟨g1, g2, g3⟩ := g
  refine ⟨by rw [h1, h5]; exact g1, fun k hk => ?_, by rw [h4]; exact g3⟩
  rw [h9 _ _ (fun hh => cRf_ne k hk hh.1)]
  exact g2 k hk
theorem FX.tr (h : FX x σ σ') (ht : tOK x t) (g : TR σ t T B P O) : TR σ' t T B P O := by
  obtain ⟨h1, h2, h3, h4, h5, h6, h9, h10, h11⟩ := h
  have e2 : zAI σ' (t + 2) = zAI σ (t + 2) := h11 _ (by unfold tOK at ht; omega) (by unfold tOK at ht; omega)
  unfold TR at g ⊢
  rw [h1, h5, h4, e2, h9 604 t (by omega), h9 605 t (by omega), h9 606 t (by omega), h9 607 t (by omega), h9 608 t (by omega)]
  obtain ⟨g1, g2, g3, g4, ⟨g5, g6, g7, g8⟩, ⟨g9, g10, g11, g12⟩, ⟨g13, g14, g15, g16⟩⟩ := g
  refine ⟨g1, fun k hk => by rw [h10 _ _ (by omega) (by omega)]; exact g2 k hk, g3, g4, ⟨g5, g6, g7, fun b hb => ?_⟩, ⟨g9, g10, g11, fun b hb => ?_⟩, ⟨g13, g14, g15, fun b hb => ?_⟩⟩
  · obtain ⟨y1, y2, y3⟩ := g8 b hb
    exact ⟨y1, y2, fun i hi => by rw [h10 _ _ (by omega) (by omega)]; exact y3 i hi⟩
  · obtain ⟨y1, y2, y3⟩ := g12 b hb
    exact ⟨y1, y2, fun i hi => by rw [h10 _ _ (by omega) (by omega)]; exact y3 i hi⟩
  · obtain ⟨y1, y2, y3⟩ := g16 b hb
    exact ⟨y1, y2, fun i hi => by rw [h10 _ _ (by omega) (by omega)]; exact y3 i hi⟩
/-- the component's fixed things and its town -/
def HC (x : Nat) (σ : ZT) (t : Nat) (T : Nat → Int32) (B P O : Nat → Nat) : Prop := CInv x σ ∧ zR σ 500 (x + 10) = some t ∧ TR σ t T B P O ∧ tOK x t
theorem HC.fx (h : HC x σ t T B P O) (g : FX x σ σ') : HC x σ' t T B P O := ⟨g.cinv h.1, by rw [g.2.2.2.2.2.2.1 _ _ (by omega)]; exact h.2.1, g.tr h.2.2.2 h.2.2.1, h.2.2.2⟩
theorem HC.sp (h : HC x σ t T B P O) (hs : zR σ 500 (x + 25) = some t) : SP σ (x + 25) (x + 32) (x + 33) t T B P O :=
  ⟨⟨xk_25 h.1, hs, h.1.2.1 20 (by decide), h.1.2.1 21 (by decide), ⟨xk_32 h.1, xn_32 h.1⟩, ⟨xk_33 h.1, xn_33 h.1⟩, by omega, by have := h.2.2.2; unfold tOK at this; omega, by have := h.2.2.2; unfold tOK at this; omega⟩, h.2.2.1⟩
theorem HC.spN (h : HC x σ t T B P O) : SP σ (x + 10) (x + 17) (x + 18) t T B P O :=
  ⟨⟨xk_10 h.1, h.2.1, h.1.2.1 18 (by decide), h.1.2.1 19 (by decide), ⟨xk_17 h.1, xn_17 h.1⟩, ⟨xk_18 h.1, xn_18 h.1⟩, by omega, by have := h.2.2.2; unfold tOK at this; omega, by have := h.2.2.2; unfold tOK at this; omega⟩, h.2.2.1⟩
theorem HC.mo (h : HC x σ t T B P O) : MoI (x + 20) σ := by
  refine ⟨xk_20 h.1, fun i hi => ?_⟩
  have hi4 : i = 0 ∨ i = 1 ∨ i = 2 ∨ i = 3 := by omega
  rcases hi4 with rfl | rfl | rfl | rfl
  · exact ⟨h.1.2.1 22 (by decide), xk_21 h.1, xn_21 h.1⟩
  · exact ⟨h.1.2.1 23 (by decide), xk_22 h.1, xn_22 h.1⟩
  · exact ⟨h.1.2.1 24 (by decide), xk_23 h.1, xn_23 h.1⟩
  · exact ⟨h.1.2.1 25 (by decide), xk_24 h.1, xn_24 h.1⟩
def psi (T : Nat → Int32) (c : Nat) : Nat := enK T (dec T c)
theorem psi_lt (hT : TW T) {c : Nat} (h : VM T c) : psi T c < 129600 := h.1.enK_lt hT
theorem psi_inj (hT : TW T) {c c' : Nat} (h : VM T c) (h' : VM T c') (e : psi T c = psi T c') : c = c' := by
  have a1 := h.1.deK hT
  have a2 := h'.1.deK hT
  have e' : enK T (dec T c) = enK T (dec T c') := e
  rw [e'] at a1
  have := (a1.symm.trans a2).enc'
  rw [h.2, h'.2] at this
  exact this
def cOt (x : Nat) (σ : ZT) : Ot := (zI σ 503 (x + 25), zI σ 504 (x + 25), zI σ 505 (x + 25))
/-- the component's arrays hold s -/
def CX (x : Nat) (σ : ZT) (t : Nat) (T : Nat → Int32) (s : Bf) (τ : ZT) : Prop := FX x σ τ ∧ zR τ 500 (x + 25) = some t ∧ MLc (x + 20) τ (mvs T) ∧ zI τ 18 x = nI s.2.length ∧ (∀ c, VM T c → zAI τ (x + 34) (psi T c) = oI (s.1 c)) ∧ ∀ i c, s.2[i]? = some c → zAI τ (x + 35) i = nI (psi T c)
theorem MLc.of {mo : Nat} {L : List Mv} (h : MLc mo σ L) (h1 : zI σ' 704 mo = zI σ 704 mo) (h2 : ∀ k, 1 ≤ k → k ≤ 4 → zAI σ' (mo + k) = zAI σ (mo + k)) : MLc mo σ' L := by
  obtain ⟨g1, g2⟩ := h
  refine ⟨by rw [h1]; exact g1, fun k v hk => ?_⟩
  rw [h2 1 (by omega) (by omega), h2 2 (by omega) (by omega), h2 3 (by omega) (by omega), h2 4 (by omega) (by omega)]
  exact g2 k v hk
theorem CX.cn {s : Bf} {τ : ZT} (h : CX x σ t T s τ) (y : St) : CX x σ t T s (CN (x + 32) (x + 33) τ y) := by
  obtain ⟨h1, h2, h3, h4, h5, h6⟩ := h
  refine ⟨h1.trans (FX.cn y), h2, h3.of rfl (fun k a b => CN_ne _ (by omega) (by omega)), h4, fun c hc => ?_, fun i c hi => ?_⟩
  · rw [CN_ne _ (by omega) (by omega)]; exact h5 c hc
  · rw [CN_ne _ (by omega) (by omega)]; exact h6 i c hi
theorem CX.tt {s : Bf} {τ : ZT} (h : CX x σ t T s τ) (hc : HC x σ t T B P O) : HC x τ t T B P O ∧ cOt x τ = cOt x σ := by
  refine ⟨hc.fx h.1, ?_⟩
  have e : ∀ f, f = 503 ∨ f = 504 ∨ f = 505 → zI τ f (x + 25) = zI σ f (x + 25) := fun f hf => h.1.2.2.2.2.2.2.2.1 f _ (by omega) (by omega)
  unfold cOt
  rw [e 503 (by omega), e 504 (by omega), e 505 (by omega)]
theorem oI_lt {o : Option Nat} (h : ∀ d, o = some d → d < 2 ^ 31) : (oI o < nI 0) = (o = none) := by
  cases o with
  | none => simp [oI, mlt0]
  | some d =>
    have : ¬ nI d < nI 0 := nI_pos (h d rfl)
    simp [oI, this]
/-- a state is looked at -/
theorem p_see {s : Bf} {τ : ZT} (h : CX x σ t T s τ) (hc : HC x σ t T B P O) (hT : TW T) (hB : BI (VM T) 129600 s) {c d : Nat} (hV : VM T c) (hd : d ≤ s.2.length) : ∃ τ', f_X0_see x (nI (psi T c)) (nI d) τ = some τ' ∧ CX x σ t T (seeA d s c) τ' := by
  obtain ⟨h1, h2, h3, h4, h5, h6⟩ := h
  have i1 : CInv x τ := h1.cinv hc.1
  have hlt := psi_lt hT hV
  have hVl := VM_lt hT hV
  have hBl := hB.len
  have r := h5 c hV
  unfold f_X0_see seeA
  by_cases hn : s.1 c = none
  · have hB2 := (hB.see (d := d) (c := c) hd ⟨hV, hVl⟩).1.len
    unfold seeA at hB2
    rw [if_pos hn] at hB2
    have hl : s.2.length < 129600 := by
      simp at hB2
      omega
    rw [if_pos hn]
    rw [hn] at r
    have rr : zAI τ (x + 34) (psi T c) = mI := r
    refine ⟨sI (sAI (sAI τ (x + 34) (psi T c) (nI d)) (x + 35) s.2.length (nI (psi T c))) 18 x (nI (s.2.length + 1)), ?_, h1.trans (((FX.ai (by omega) _ _).trans (FX.ai (by omega) _ _)).trans (FX.sI18 _)), h2, h3.of ?_ (fun k k1 k2 => ?_), ?_, fun y hy => ?_, fun i y hi => ?_⟩
    · simp (disch := first | exact i1 | omega | (simp only [Ci_sI, Ci_sAI]; exact i1)) [xr_0_0, xr_1_0, xr_5_0, xr_6_0, xr_10_0, xr_11_0, xr_13_0, xr_14_0, xr_15_0, xr_16_0, xr_17_0, xr_19_0, xr_20_0, xr_21_0, xr_23_0, xr_25_0, xr_26_0, xr_400_9, xr_501_10, xr_502_10, xr_501_25, xr_502_25, xr_700_20, xr_701_20, xr_702_20, xr_703_20, xr_700_39, xr_701_39, xr_702_39, xr_703_39, xr_800_44, xr_501_45, xr_502_45, xi_0, xp_0, xv_0, xi_9, xp_9, xv_9, xi_10, xp_10, xv_10, xi_25, xp_25, xv_25, xi_45, xp_45, xv_45, xi_20, xp_20, xv_20, xi_39, xp_39, xv_39, xi_44, xp_44, xv_44, xl_17, xs_17, xl_18, xs_18, xl_21, xs_21, xl_22, xs_22, xl_23, xs_23, xl_24, xs_24, xl_32, xs_32, xl_33, xs_33, xl_34, xs_34, xl_35, xs_35, xl_36, xs_36, xl_37, xs_37, xl_38, xs_38, xl_40, xs_40, xl_41, xs_41, xl_42, xs_42, xl_43, xs_43, xl_52, xs_52, xl_53, xs_53, xl_54, xs_54, xl_55, xs_55, lI, mI_eq, nI_add, pk_mul, nlt, nle, neq, nI_mI, mI_nI, nltm, mltn, nsub, zremN, zdivN, rr, h4, zI_sAI, mlt0]
    · rw [r_II, if_neg (by omega)]
      rfl
    · rw [zAI_sI, sAI_r, sAI_r, zAIr_ne _ (by omega), zAIr_ne _ (by omega)]
    · rw [r_II, if_pos ⟨rfl, rfl⟩]
      simp
    · rw [zAI_sI, r_AI, if_neg (by omega), r_AI]
      show _ = oI (if y = c then some d else s.1 y)
      by_cases ey : y = c
      · simp [ey, oI]
      · rw [if_neg (fun hh => ey (psi_inj hT hy hV hh.2)), if_neg ey]
        exact h5 y hy
    · rw [zAI_sI, r_AI]
      by_cases ei : i = s.2.length
      · subst ei
        simp at hi
        simp [hi]
      · have hi2 : s.2[i]? = some y := by
          have hlt := (List.getElem?_eq_some_iff.mp hi).1
          simp at hlt
          rwa [List.getElem?_append_left (by omega)] at hi
        rw [if_neg (by omega), r_AI, if_neg (by omega)]
        exact h6 i y hi2
  · rw [if_neg hn]
    obtain ⟨d', hd'⟩ := Option.ne_none_iff_exists'.mp hn
    have hd'l := hB.2.2.2 c d' hd'
    rw [hd'] at r
    have rr : zAI τ (x + 34) (psi T c) = nI d' := r
    refine ⟨τ, ?_, h1, h2, h3, h4, h5, h6⟩
    simp (disch := first | exact i1 | omega) [xr_0_0, xr_1_0, xr_5_0, xr_6_0, xr_10_0, xr_11_0, xr_13_0, xr_14_0, xr_15_0, xr_16_0, xr_17_0, xr_19_0, xr_20_0, xr_21_0, xr_23_0, xr_25_0, xr_26_0, xr_400_9, xr_501_10, xr_502_10, xr_501_25, xr_502_25, xr_700_20, xr_701_20, xr_702_20, xr_703_20, xr_700_39, xr_701_39, xr_702_39, xr_703_39, xr_800_44, xr_501_45, xr_502_45, xi_0, xp_0, xv_0, xi_9, xp_9, xv_9, xi_10, xp_10, xv_10, xi_25, xp_25, xv_25, xi_45, xp_45, xv_45, xi_20, xp_20, xv_20, xi_39, xp_39, xv_39, xi_44, xp_44, xv_44, xl_17, xs_17, xl_18, xs_18, xl_21, xs_21, xl_22, xs_22, xl_23, xs_23, xl_24, xs_24, xl_32, xs_32, xl_33, xs_33, xl_34, xs_34, xl_35, xs_35, xl_36, xs_36, xl_37, xs_37, xl_38, xs_38, xl_40, xs_40, xl_41, xs_41, xl_42, xs_42, xl_43, xs_43, xl_52, xs_52, xl_53, xs_53, xl_54, xs_54, xl_55, xs_55, lI, mI_eq, nI_add, pk_mul, nlt, nle, neq, nI_mI, mI_nI, nltm, mltn, nsub, zremN, zdivN, rr]
end
