set_option maxRecDepth 100000
/-! ===== the model's rows of orders, one by one ===== -/
noncomputable def MM (m k : Nat) (τ : ZT) : Option (ZT ⊕ ZT) := loopC (fun s : (Int32 × ZT) => f_X9_runs_L55 m s.1 s.2) (nI k, τ)
noncomputable def NN (m j : Nat) (τ : ZT) : Option (ZT ⊕ ZT) := bnd2 (f_X9_behindEnds m (nI j) τ) (fun v σ => loopC (fun s : (Int32 × ZT) => f_X9_runs_L55 m s.1 s.2) (v, σ))
/-- a row that tells a move -/
def RwM (T : Nat → Int32) (i : Nat) (v : Mv) : Prop := MvW T v ∧ rw5 T i 1 = nI v.2.1 ∧
  ((v.1 = 0 ∧ v.2.2.1 = none ∧ rw5 T i 0 = nI 19 ∧ rw5 T i 2 = mI ∧ ∃ br, v.2.2.2 = some br ∧ rw5 T i 3 = nI br) ∨
   (v.1 = 1 ∧ rw5 T i 0 = nI 20 ∧ (∃ q, v.2.2.1 = some q ∧ rw5 T i 2 = nI q) ∧ ∃ br, v.2.2.2 = some br ∧ rw5 T i 3 = nI br) ∨
   (v.1 = 2 ∧ rw5 T i 0 = nI 22 ∧ ∃ l, v.2.2.2 = some l ∧ rw5 T i 3 = nI l) ∨
   (v.1 = 3 ∧ rw5 T i 0 = nI 23))
section
variable {m : Nat} {σ σ' σ'' τ : ZT} {T : Nat → Int32} {bl : Bool} {w : Ot} {st : St} {n dn : Nat} {ms sl tl mi d : Int32}
theorem MM_step (m k : Nat) (τ : ZT) : MM m k τ = (f_X9_runs_L55 m (nI k) τ).bind (fun x => match x with | .inl s' => loopC (fun s : (Int32 × ZT) => f_X9_runs_L55 m s.1 s.2) s' | .inr r => some r) := by
  unfold MM
  rw [loopC_step]
  show Option.bind (f_X9_runs_L55 m (nI k) τ) _ = _
  cases f_X9_runs_L55 m (nI k) τ with
  | none => rfl
  | some y => cases y <;> rfl
theorem q_rd (i1 : MInv m τ) (eT : zAI τ (m + 1) = T) {i j : Nat} (hi : i < 60) (hj : j < 5) : ldI 0 (m + 1) (nI (120 + 5 * i + j)) τ = some (rw5 T i j) := by
  rw [ml_at i1 (by omega), eT]
  rfl
theorem ix0 (i : Nat) : (120 : Int32) + (5 : Int32) * nI i = nI (120 + 5 * i + 0) := by
  show nI 120 + nI 5 * nI i = _
  rw [pk_mul, nI_add, Nat.add_zero]
theorem ixk (i k : Nat) : nI (120 + 5 * i + 0) + nI k = nI (120 + 5 * i + k) := by
  rw [nI_add, Nat.add_zero]
/-- the moves by the orders -/
theorem q_omove (hb : RM m σ T w) (h : MRn m T bl σ τ (st, n, dn, ms, sl, tl, mi, d)) {i : Nat} (hi : i < 60) {v : Mv} (hv : RwM T i v) : ∃ τ' r, f_X9_ordersMove m (nI (120 + 5 * i + 0)) τ = some (bI r, τ') ∧ ((r = false ∧ MRn m T bl σ τ' (st, n, dn, ms, sl, tl, mi, d) ∧ goS T w bl v (st, n, dn, ms, sl, tl, mi, d) = ((st, n, dn, ms + nI 1, sl, tl, mi, d), false)) ∨ (r = true ∧ MRn m T bl σ τ' (goS T w bl v (st, n, dn, ms, sl, tl, mi, d)).1 ∧ (goS T w bl v (st, n, dn, ms, sl, tl, mi, d)).1.2.2.2.1 = ms ∧ ((goS T w bl v (st, n, dn, ms, sl, tl, mi, d)).1.2.2.1 = dn + 1 ∧ (goS T w bl v (st, n, dn, ms, sl, tl, mi, d)).2 = sDone T (goS T w bl v (st, n, dn, ms, sl, tl, mi, d)).1.1.1 ∨ (goS T w bl v (st, n, dn, ms, sl, tl, mi, d)).1.2.2.1 = dn ∧ (goS T w bl v (st, n, dn, ms, sl, tl, mi, d)).2 = false))) := by
  obtain ⟨i1, eT, ew⟩ := h.base hb
  have hT := hb.2.2.1
  have n8 := hT.2.2.1
  have n4 := hT.2.2.2.1
  have n2 := hT.2.2.2.2.1
  obtain ⟨hW, r1, hv⟩ := hv
  have hva := hW.1
  have d0 := q_rd i1 eT hi (j := 0) (by decide)
  have d1 := q_rd i1 eT hi (j := 1) (by decide)
  have d2 := q_rd i1 eT hi (j := 2) (by decide)
  have d3 := q_rd i1 eT hi (j := 3) (by decide)
  rw [r1] at d1
  -- over a bridge
  have over : ∀ br, v.1 < 2 → v.2.2.2 = some br → rw5 T i 2 = oI v.2.2.1 → rw5 T i 3 = nI br → f_X9_ordersMove m (nI (120 + 5 * i + 0)) τ = f_X9_ordersMove_J28 m (nI (120 + 5 * i + 0)) (nI v.2.1) τ → ∃ τ' r, f_X9_ordersMove m (nI (120 + 5 * i + 0)) τ = some (bI r, τ') ∧ ((r = false ∧ MRn m T bl σ τ' (st, n, dn, ms, sl, tl, mi, d) ∧ goS T w bl v (st, n, dn, ms, sl, tl, mi, d) = ((st, n, dn, ms + nI 1, sl, tl, mi, d), false)) ∨ (r = true ∧ MRn m T bl σ τ' (goS T w bl v (st, n, dn, ms, sl, tl, mi, d)).1 ∧ (goS T w bl v (st, n, dn, ms, sl, tl, mi, d)).1.2.2.2.1 = ms ∧ ((goS T w bl v (st, n, dn, ms, sl, tl, mi, d)).1.2.2.1 = dn + 1 ∧ (goS T w bl v (st, n, dn, ms, sl, tl, mi, d)).2 = sDone T (goS T w bl v (st, n, dn, ms, sl, tl, mi, d)).1.1.1 ∨ (goS T w bl v (st, n, dn, ms, sl, tl, mi, d)).1.2.2.1 = dn ∧ (goS T w bl v (st, n, dn, ms, sl, tl, mi, d)).2 = false))) := by
    intro br h2 hbr e2 e3 hent
    obtain ⟨τ', r, f1, f2⟩ := q_over hb h hW h2 hbr
    rw [e2] at d2
    rw [e3] at d3
    have hgo : f_X9_ordersMove m (nI (120 + 5 * i + 0)) τ = some (bI r, τ') := by
      rw [hent]
      unfold f_X9_ordersMove_J28
      simp (disch := first | exact i1 | omega) only [mR900, bind_s, lI, ixk, d2, d3, mvc, f1, bnd2_s, rz_bI]
    have hg : goS T w bl v (st, n, dn, ms, sl, tl, mi, d) = if 0 < sWhy T st.1 st.2 w.1 w.2.1 w.2.2 v.2.1 v.2.2.1 br then ((st, n, dn, ms + nI 1, sl, tl, mi, d), false) else if (slp bl (T (14 + 9 * br + 8)) (isTwo v.2.2.1) d).1 = true then ((st, n, dn, ms, sl + nI 1, tl + T (14 + 9 * br + 6) * rTw v.2.2.1, mi + T (14 + 9 * br + 7), (slp bl (T (14 + 9 * br + 8)) (isTwo v.2.2.1) d).2), false) else (((sGo T st.1 v.2.1 v.2.2.1 br, st.2), n, dn + 1, ms, sl, tl + T (14 + 9 * br + 6) * rTw v.2.2.1, mi + T (14 + 9 * br + 7), (slp bl (T (14 + 9 * br + 8)) (isTwo v.2.2.1) d).2), sDone T (sGo T st.1 v.2.1 v.2.2.1 br)) := by
      unfold goS
      rw [if_pos h2, hbr]
    refine ⟨τ', r, hgo, ?_⟩
    rcases f2 with ⟨y1, y2, y3⟩ | ⟨y1, y2, y3⟩
    · left
      rw [y3]
      exact ⟨y2, h, by rw [hg, if_pos y1]⟩
    · right
      refine ⟨y2, y3, ?_⟩
      rw [hg, if_neg y1]
      by_cases hs : (slp bl (T (14 + 9 * br + 8)) (isTwo v.2.2.1) d).1 = true
      · rw [if_pos hs]
        exact ⟨rfl, Or.inr ⟨rfl, rfl⟩⟩
      · rw [if_neg hs]
        exact ⟨rfl, Or.inl ⟨rfl, rfl⟩⟩
  have hip := q_isPerson i1 (by rw [eT]; exact hT) (nI v.2.1)
  rw [eT, ok_nI (by omega) hW.1] at hip
  have hip : f_X9_isPerson m (nI v.2.1) τ = some (nI 1, τ) := hip
  have hself : NL m τ (zAI τ (m + 9), zAI τ (m + 10)) = τ := NL_self
  have hag : Agr T (zAI τ (m + 9), zAI τ (m + 10)) st := h.2.2.2
  have emo : mOt m τ = w := by
    unfold mOt
    rw [ew.1, ew.2.1, ew.2.2]
  have e43 : zI τ 943 m = nI dn := h.2.1.2.2.1
  -- a load lifted or dropped
  have hand : ¬ v.1 < 2 → (∀ k : Int32 → ZT → Option (Int32 × ZT), (∃ o : Option St, o = sMv T w v (zAI τ (m + 9), zAI τ (m + 10)) ∧ f_X9_ordersMove m (nI (120 + 5 * i + 0)) τ = f_X9_ordersMove_J111 m (if o.isSome then nI 1 else nI 0) (NL m τ (o.getD (zAI τ (m + 9), zAI τ (m + 10))))) → True) → f_X9_ordersMove m (nI (120 + 5 * i + 0)) τ = f_X9_ordersMove_J111 m (if (sMv T w v (zAI τ (m + 9), zAI τ (m + 10))).isSome then nI 1 else nI 0) (NL m τ ((sMv T w v (zAI τ (m + 9), zAI τ (m + 10))).getD (zAI τ (m + 9), zAI τ (m + 10)))) → ∃ τ' r, f_X9_ordersMove m (nI (120 + 5 * i + 0)) τ = some (bI r, τ') ∧ ((r = false ∧ MRn m T bl σ τ' (st, n, dn, ms, sl, tl, mi, d) ∧ goS T w bl v (st, n, dn, ms, sl, tl, mi, d) = ((st, n, dn, ms + nI 1, sl, tl, mi, d), false)) ∨ (r = true ∧ MRn m T bl σ τ' (goS T w bl v (st, n, dn, ms, sl, tl, mi, d)).1 ∧ (goS T w bl v (st, n, dn, ms, sl, tl, mi, d)).1.2.2.2.1 = ms ∧ ((goS T w bl v (st, n, dn, ms, sl, tl, mi, d)).1.2.2.1 = dn + 1 ∧ (goS T w bl v (st, n, dn, ms, sl, tl, mi, d)).2 = sDone T (goS T w bl v (st, n, dn, ms, sl, tl, mi, d)).1.1.1 ∨ (goS T w bl v (st, n, dn, ms, sl, tl, mi, d)).1.2.2.1 = dn ∧ (goS T w bl v (st, n, dn, ms, sl, tl, mi, d)).2 = false))) := by
    intro h2 _ hent
    rw [hent]
    have hg : goS T w bl v (st, n, dn, ms, sl, tl, mi, d) = match sMv T w v st with
        | none => ((st, n, dn, ms + nI 1, sl, tl, mi, d), false)
        | some r => ((r, n, dn + 1, ms, sl, tl, mi, d), sDone T r.1) := by
      unfold goS
      rw [if_neg h2]
      have e0 : sMv T w v (st, n, dn, ms, sl, tl, mi, d).1 = sMv T w v st := rfl
      rw [e0]
      cases sMv T w v st <;> rfl
    unfold f_X9_ordersMove_J111 f_X9_ordersMove_J128
    rcases hag.mv w hW with ⟨m1, m2⟩ | ⟨r1, r2, m1, m2, m3⟩
    · have m2 : sMv T w v st = none := m2
      rw [m2] at hg
      rw [m1]
      show ∃ τ' r, (gI 9 943 m (NL m τ (zAI τ (m + 9), zAI τ (m + 10)))).bind _ = _ ∧ _
      rw [hself, mgI i1, bind_s, e43]
      refine ⟨sI τ 943 m (nI dn), false, ?_, Or.inl ⟨rfl, h.s943 dn, hg⟩⟩
      have ez : nI dn + nI 0 = nI dn := add_n0 _
      simp (disch := first | exact i1 | omega) [lI, mpI, ez, rz, bI, hself]
    · have m2 : sMv T w v st = some r2 := m2
      rw [m2] at hg
      have hs := h.nl m3
      have i2 : MInv m (NL m τ r1) := (hs.base hb).1
      have e43' : zI (NL m τ r1) 943 m = nI dn := hs.2.1.2.2.1
      rw [m1]
      show ∃ τ' r, (gI 9 943 m (NL m τ r1)).bind _ = _ ∧ _
      rw [mgI i2, bind_s, e43']
      refine ⟨sI (NL m τ r1) 943 m (nI (dn + 1)), true, ?_, Or.inr ⟨rfl, ?_, ?_⟩⟩
      · simp (disch := first | exact i2 | omega) [lI, mpI, nI_add, rz, bI, n1n0]
      · rw [hg]; exact hs.s943 (dn + 1)
      · rw [hg]
        exact ⟨rfl, Or.inl ⟨rfl, rfl⟩⟩
  rcases hv with ⟨h1, h2, h3, h4, br, h5, h6⟩ | ⟨h1, h2, ⟨q, h3, h4⟩, br, h5, h6⟩ | ⟨h1, h2, l, h5, h6⟩ | ⟨h1, h2⟩
  · refine over br (by omega) h5 (by rw [h2]; exact h4) h6 ?_
    rw [h3] at d0
    unfold f_X9_ordersMove
    simp (disch := first | exact i1 | omega) only [mR900, bind_s, d0, lI, ixk, d1, if_true]
  · refine over br (by omega) h5 (by rw [h3]; exact h4) h6 ?_
    rw [h2] at d0
    unfold f_X9_ordersMove
    simp (disch := first | exact i1 | omega) only [mR900, bind_s, d0, lI, ixk, d1, neq, if_true]
    simp
  · refine hand (by omega) (fun _ _ => trivial) ?_
    obtain ⟨l', g5, g6⟩ := hW.2.2 h1
    rw [h5] at g5
    cases g5
    rw [h2] at d0
    rw [h6] at d3
    have hil := q_isLoad i1 (by rw [eT]; exact hT) (nI l)
    rw [eT, ok_nI (by omega) g6] at hil
    have hil : f_X9_isLoad m (nI l) τ = some (nI 1, τ) := hil
    have hl := q_mv2 i1 (by rw [eT]; exact hT) (v := v) (by rw [eT]; exact hW) h1 h5 (zAI τ (m + 9), zAI τ (m + 10))
    rw [hself, eT, emo] at hl
    unfold f_X9_ordersMove f_X9_ordersMove_J110 f_X9_ordersMove_J106
    simp (disch := first | exact i1 | omega) only [mR900, bind_s, d0, lI, ixk, d1, neq, mvc, hip, bnd2_s, n1n0, if_false, d3, hil, hl, if_true]
    cases sMv T w v (zAI τ (m + 9), zAI τ (m + 10)) <;> rfl
  · refine hand (by omega) (fun _ _ => trivial) ?_
    rw [h2] at d0
    have hl := q_mv3 i1 (by rw [eT]; exact hT) (v := v) (by rw [eT]; exact hW) h1 (zAI τ (m + 9), zAI τ (m + 10))
    rw [hself, eT, emo] at hl
    unfold f_X9_ordersMove f_X9_ordersMove_J110 f_X9_ordersMove_J106
    simp (disch := first | exact i1 | omega) only [mR900, bind_s, d0, lI, ixk, d1, neq, mvc, hip, bnd2_s, n1n0, if_false, hl]
    cases sMv T w v (zAI τ (m + 9), zAI τ (m + 10)) <;> rfl
end
