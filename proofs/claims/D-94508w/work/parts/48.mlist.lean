set_option maxRecDepth 100000
/-! ===== what may have changed: fields of the model's object, arrays of it, by ranges ===== -/
def FR (m f0 f1 a0 a1 : Nat) (σ σ' : ZT) : Prop := zK σ' = zK σ ∧ zL σ' = zL σ ∧ zR σ' = zR σ ∧ zAL σ' = zAL σ ∧ zAR σ' = zAR σ ∧ zN σ' = zN σ ∧ (zsz σ' = zsz σ ∧ zbc σ' = zbc σ ∧ zbs σ' = zbs σ) ∧ (∀ f a, ¬ (a = m ∧ f0 ≤ f ∧ f ≤ f1) → zI σ' f a = zI σ f a) ∧ ∀ a, ¬ (m + a0 ≤ a ∧ a ≤ m + a1) → zAI σ' a = zAI σ a
section
variable {m f0 f1 a0 a1 : Nat} {σ σ' σ'' : ZT}
theorem FR.refl (σ : ZT) : FR m f0 f1 a0 a1 σ σ := ⟨rfl, rfl, rfl, rfl, rfl, rfl, ⟨rfl, rfl, rfl⟩, fun _ _ _ => rfl, fun _ _ => rfl⟩
theorem FR.trans (h : FR m f0 f1 a0 a1 σ σ') (g : FR m f0 f1 a0 a1 σ' σ'') : FR m f0 f1 a0 a1 σ σ'' := by
  obtain ⟨h1, h2, h3, h4, h5, h6, ⟨h7, h8, h9⟩, h10, h11⟩ := h
  obtain ⟨g1, g2, g3, g4, g5, g6, ⟨g7, g8, g9⟩, g10, g11⟩ := g
  exact ⟨g1.trans h1, g2.trans h2, g3.trans h3, g4.trans h4, g5.trans h5, g6.trans h6, ⟨g7.trans h7, g8.trans h8, g9.trans h9⟩, fun f a hn => (g10 f a hn).trans (h10 f a hn), fun a hn => (g11 a hn).trans (h11 a hn)⟩
theorem FR.mono {f0' f1' a0' a1' : Nat} (h : FR m f0 f1 a0 a1 σ σ') (h1 : f0' ≤ f0) (h2 : f1 ≤ f1') (h3 : a0' ≤ a0) (h4 : a1 ≤ a1') : FR m f0' f1' a0' a1' σ σ' := by
  obtain ⟨q1, q2, q3, q4, q5, q6, q7, q10, q11⟩ := h
  exact ⟨q1, q2, q3, q4, q5, q6, q7, fun f a hn => q10 f a (fun hh => hn ⟨hh.1, by omega, by omega⟩), fun a hn => q11 a (fun hh => hn ⟨by omega, by omega⟩)⟩
theorem FR.sI {f : Nat} (h1 : f0 ≤ f) (h2 : f ≤ f1) (v : Int32) : FR m f0 f1 a0 a1 σ (sI σ f m v) := by
  refine ⟨rfl, rfl, rfl, rfl, rfl, rfl, ⟨rfl, rfl, rfl⟩, fun g a hn => ?_, fun _ _ => rfl⟩
  rw [r_II, if_neg]
  rintro ⟨rfl, rfl⟩
  exact hn ⟨rfl, h1, h2⟩
theorem FR.sAIr {k : Nat} (h1 : a0 ≤ k) (h2 : k ≤ a1) (r : Nat → Int32) : FR m f0 f1 a0 a1 σ (sAIr σ (m + k) r) := by
  refine ⟨rfl, rfl, rfl, rfl, rfl, rfl, ⟨rfl, rfl, rfl⟩, fun _ _ _ => rfl, fun a hn => ?_⟩
  exact zAIr_ne _ (fun e => hn ⟨by omega, by omega⟩)
theorem FR.sAI {k : Nat} (h1 : a0 ≤ k) (h2 : k ≤ a1) (i : Nat) (v : Int32) : FR m f0 f1 a0 a1 σ (sAI σ (m + k) i v) := by
  rw [sAI_r]
  exact FR.sAIr h1 h2 _
theorem FR.NL (h1 : a0 ≤ 9) (h2 : 10 ≤ a1) (s : St) : FR m f0 f1 a0 a1 σ (NL m σ s) := (FR.sAIr (k := 10) (by omega) h2 _).trans (FR.sAIr (k := 9) h1 (by omega) _)
theorem FR.inv (h : FR m f0 f1 a0 a1 σ σ') (hm : MInv m σ) : MInv m σ' := by
  obtain ⟨h1, h2, h3, h4, h5, h6, -⟩ := h
  unfold MInv
  rw [h1, h3, h6]
  exact hm
theorem FR.ai (h : FR m f0 f1 a0 a1 σ σ') {a : Nat} (ha : ¬ (m + a0 ≤ a ∧ a ≤ m + a1)) : zAI σ' a = zAI σ a := h.2.2.2.2.2.2.2.2 a ha
theorem FR.i (h : FR m f0 f1 a0 a1 σ σ') {f a : Nat} (hf : ¬ (a = m ∧ f0 ≤ f ∧ f ≤ f1)) : zI σ' f a = zI σ f a := h.2.2.2.2.2.2.2.1 f a hf
end
/-! ===== the moves, one behind the other ===== -/
def gGo (nb : Nat) (p : Nat) : List Mv := (List.range' 0 nb).flatMap fun b => [(0, p, none, some b)]
def gBo1 (nb p q : Nat) : List Mv := (List.range' 0 nb).flatMap fun b => [(1, p, some q, some b)]
def gBo (nb nq p : Nat) : List Mv := (List.range' (p + 1) (nq - (p + 1))).flatMap fun q => gBo1 nb p q
def gLi (nl p : Nat) : List Mv := (List.range' 0 nl).flatMap fun l => [(2, p, none, some l)]
def gDr (p : Nat) : List Mv := [(3, p, none, none)]
def mvs (T : Nat → Int32) : List Mv := (((List.range' 0 (fn T 2)).flatMap (gGo (fn T 1)) ++ (List.range' 0 (fn T 2)).flatMap (gBo (fn T 1) (fn T 2))) ++ (List.range' 0 (fn T 2)).flatMap (gLi (fn T 3))) ++ (List.range' 0 (fn T 2)).flatMap gDr
theorem loop_list {body : (Int32 × ZT) → Option ((Int32 × ZT) ⊕ ZT)} {g : Nat → List Mv} {P : Nat → ZT → List Mv → Prop} {n : Nat} (hs : ∀ k, k < n → ∀ τ L, P k τ L → ∃ τ', body (nI k, τ) = some (.inl (nI (k + 1), τ')) ∧ P (k + 1) τ' (L ++ g k)) (he : ∀ τ L, P n τ L → body (nI n, τ) = some (.inr τ)) : ∀ d j, j + d = n → ∀ τ L, P j τ L → ∃ τ', loopC body (nI j, τ) = some τ' ∧ P n τ' (L ++ (List.range' j d).flatMap g) := by
  intro d
  induction d with
  | zero =>
    intro j hj τ L hP
    have : j = n := by omega
    subst this
    refine ⟨τ, ?_, by simpa using hP⟩
    rw [loopC_step, he τ L hP]
    rfl
  | succ d ih =>
    intro j hj τ L hP
    obtain ⟨τ1, h1, h2⟩ := hs j (by omega) τ L hP
    obtain ⟨τ2, h3, h4⟩ := ih (j + 1) (by omega) τ1 _ h2
    refine ⟨τ2, ?_, ?_⟩
    · rw [loopC_step, h1]
      exact h3
    · rw [List.range'_succ, List.flatMap_cons, ← List.append_assoc]
      exact h4
/-- the model's list of moves is L -/
def ML (m : Nat) (σ : ZT) (L : List Mv) : Prop := zI σ 933 m = nI L.length ∧ ∀ k v, L[k]? = some v → MvA m σ k v
section
variable {m : Nat} {σ : ZT}
theorem q_adds (h : MInv m σ) {L : List Mv} (hL : ML m σ L) (hl : L.length < 100) (v : Mv) : ∃ τ, f_X9_adds m (nI v.1) (nI v.2.1) (oI v.2.2.1) (oI v.2.2.2) σ = some τ ∧ FR m 933 933 11 14 σ τ ∧ ML m τ (L ++ [v]) := by
  obtain ⟨h1, h2⟩ := hL
  refine ⟨sI (sAI (sAI (sAI (sAI σ (m + 11) L.length (nI v.1)) (m + 12) L.length (nI v.2.1)) (m + 13) L.length (oI v.2.2.1)) (m + 14) L.length (oI v.2.2.2)) 933 m (nI (L.length + 1)), ?_, ?_, ?_, ?_⟩
  · unfold f_X9_adds
    simp (disch := first | exact h | omega | (simp only [Mi_sI, Mi_sL, Mi_sAI, Mi_sAL, Mi_sAIr, Mi_sALr]; exact h)) only [mR900, mR901, mR905, mR906, mR907, mR908, mR909, mR921, mR924, mR925, mR929, mR930, mR931, mR932, mR934, mR935, mR936, mR940, mR949, mR950, mR951, ml_at, ml_names, ml_sort, ml_trayMany, ml_trays, ml_tape, ml_text, ml_opened, ml_now, ml_lies, ml_moveKind, ml_moveOne, ml_moveTwo, ml_moveThird, ml_far, ml_come, ml_good, ml_way, ml_rounds, ml_told0, ml_endAt, ms_at, ms_names, ms_sort, ms_trayMany, ms_trays, ms_tape, ms_text, ms_opened, ms_now, ms_lies, ms_moveKind, ms_moveOne, ms_moveTwo, ms_moveThird, ms_far, ms_come, ms_good, ms_way, ms_rounds, ms_told0, ms_endAt, mgI, mgL, mpI, mpL, mpZ, mvc, bnd2_s, bind_s, rz, lI, mI_eq, nI_add, pk_mul, nlt, nle, neq, nI_mI, mI_nI, nltm, mltn, nsub, zremN, zdivN, zK_sI, zL_sI, zR_sI, zAI_sI, zAL_sI, zAR_sI, zN_sI, zsz_sI, zbc_sI, zbs_sI, zK_sL, zI_sL, zR_sL, zAI_sL, zAL_sL, zAR_sL, zN_sL, zsz_sL, zbc_sL, zbs_sL, zK_sR, zI_sR, zL_sR, zAI_sR, zAL_sR, zAR_sR, zN_sR, zsz_sR, zbc_sR, zbs_sR, zK_sAI, zI_sAI, zL_sAI, zR_sAI, zAL_sAI, zAR_sAI, zN_sAI, zsz_sAI, zbc_sAI, zbs_sAI, zK_sAL, zI_sAL, zL_sAL, zR_sAL, zAI_sAL, zAR_sAL, zN_sAL, zsz_sAL, zbc_sAL, zbs_sAL, zK_sAR, zI_sAR, zL_sAR, zR_sAR, zAI_sAR, zAL_sAR, zN_sAR, zsz_sAR, zbc_sAR, zbs_sAR, zK_sAIr, zI_sAIr, zL_sAIr, zR_sAIr, zAL_sAIr, zAR_sAIr, zN_sAIr, zsz_sAIr, zbc_sAIr, zbs_sAIr, zK_sALr, zI_sALr, zL_sALr, zR_sALr, zAI_sALr, zAR_sALr, zN_sALr, zsz_sALr, zbc_sALr, zbs_sALr, zK_sARr, zI_sARr, zL_sARr, zR_sARr, zAI_sARr, zAL_sARr, zN_sARr, zsz_sARr, zbc_sARr, zbs_sARr, r_II, r_LL, r_RR, r_AI, r_AL, r_AIr, r_ALr, h1]
  · exact ((((FR.sAI (by decide) (by decide) _ _).trans (FR.sAI (by decide) (by decide) _ _)).trans (FR.sAI (by decide) (by decide) _ _)).trans (FR.sAI (by decide) (by decide) _ _)).trans (FR.sI (by decide) (by decide) _)
  · rw [r_II, if_pos ⟨rfl, rfl⟩, List.length_append]
    rfl
  · intro k x hk
    by_cases e : k < L.length
    · rw [List.getElem?_append_left e] at hk
      obtain ⟨a1, a2, a3, a4⟩ := h2 k x hk
      have ne : k ≠ L.length := by omega
      refine ⟨?_, ?_, ?_, ?_⟩ <;> simp [zAI_sI, r_AI, ne, a1, a2, a3, a4]
    · have e2 : k = L.length := by
        have := (List.getElem?_eq_some_iff.mp hk).1
        simp at this
        omega
      subst e2
      simp at hk
      subst hk
      refine ⟨?_, ?_, ?_, ?_⟩ <;> simp [zAI_sI, r_AI]
end
