set_option maxRecDepth 100000
section
variable {m : Nat} {σ σ' σ'' τ : ZT} {T : Nat → Int32} {bl : Bool} {w : Ot} {st : St} {n dn N i : Nat} {ms sl tl mi d : Int32}
theorem q_n (i1 : MInv m τ) (eT : zAI τ (m + 1) = T) (hN : T 4 = nI N) : ldI 0 (m + 1) (4 : Int32) τ = some (nI N) := by
  have := ml_at i1 (k := 4) (by decide)
  rw [eT, hN] at this
  exact this
noncomputable def KMM (m : Nat) : (Int32 × ZT) ⊕ (ZT ⊕ ZT) → Option (ZT ⊕ ZT)
  | .inl s' => loopC (fun s : (Int32 × ZT) => f_X9_runs_L55 m s.1 s.2) s'
  | .inr r => some r
theorem MM_st (m k : Nat) (τ : ZT) : MM m k τ = (f_X9_runs_L55 m (nI k) τ).bind (KMM m) := by
  rw [MM_step]
  cases f_X9_runs_L55 m (nI k) τ with
  | none => rfl
  | some y => cases y <;> rfl
theorem mm_400 (hb : RM m σ T w) (h : MRn m T bl σ τ (st, 400, dn, ms, sl, tl, mi, d)) (hN : T 4 = nI N) (hi : i < N) (hN60 : N ≤ 60) : MM m i τ = some (.inr τ) := by
  obtain ⟨i1, eT, -⟩ := h.base hb
  have e2 : zI τ 942 m = nI 400 := h.2.1.2.1
  rw [MM_st]
  unfold f_X9_runs_L55
  rw [mR900 i1, bind_s, q_n i1 eT hN, bind_s, if_pos (show nI i < nI N from nI_lt hi (by omega)), mgI i1, bind_s, e2, if_neg (show ¬ nI 400 < (400 : Int32) by decide)]
  rfl
/-- the head of a row -/
theorem mm_head (hb : RM m σ T w) (h : MRn m T bl σ τ (st, n, dn, ms, sl, tl, mi, d)) (hN : T 4 = nI N) (hi : i < N) (hN60 : N ≤ 60) (hn : n < 400) : f_X9_runs_L55 m (nI i) τ = (if rw5 T i 0 = (29 : Int32) then some (.inr (.inl (sI τ 942 m (nI (n + 1))))) else if rw5 T i 0 < (19 : Int32) then f_X9_runs_J167_55 m (nI i) (nI (120 + 5 * i + 0)) (rw5 T i 0) (sI τ 942 m (nI (n + 1))) else if (23 : Int32) < rw5 T i 0 then f_X9_runs_J167_55 m (nI i) (nI (120 + 5 * i + 0)) (rw5 T i 0) (sI τ 942 m (nI (n + 1))) else ((gI 9 943 m (sI τ 942 m (nI (n + 1)))).bind fun v9 => (gI 9 944 m (sI τ 942 m (nI (n + 1)))).bind fun v10 => bnd2 (vc 9 m (sI τ 942 m (nI (n + 1))) (f_X9_ordersMove m (nI (120 + 5 * i + 0)) (sI τ 942 m (nI (n + 1))))) fun v11 σ => if v11 = 0 then f_X9_runs_J146_55 m (nI i) (nI (120 + 5 * i + 0)) (rw5 T i 0) v9 (1 : Int32) v10 m σ else f_X9_runs_J146_55 m (nI i) (nI (120 + 5 * i + 0)) (rw5 T i 0) v9 (0 : Int32) v10 m σ)) := by
  obtain ⟨i1, eT, -⟩ := h.base hb
  have e2 : zI τ 942 m = nI n := h.2.1.2.1
  have e21 : nI n + (1 : Int32) = nI (n + 1) := by
    show nI n + nI 1 = _
    rw [nI_add]
  have hlt : nI n < (400 : Int32) := nI_lt (b := 400) hn (by decide)
  unfold f_X9_runs_L55
  rw [mR900 i1, bind_s, q_n i1 eT hN, bind_s, if_pos (show nI i < nI N from nI_lt hi (by omega)), mgI i1, bind_s, e2, if_pos hlt, bind_s, ix0, q_rd i1 eT (by omega) (by decide), bind_s, bind_s, e21, mpI i1, bind_s]
theorem mm_stop (hb : RM m σ T w) (h : MRn m T bl σ τ (st, n, dn, ms, sl, tl, mi, d)) (hN : T 4 = nI N) (hi : i < N) (hN60 : N ≤ 60) (hn : n < 400) (hk : rw5 T i 0 = nI 29) : MM m i τ = some (.inl (sI τ 942 m (nI (n + 1)))) := by
  rw [MM_st, mm_head hb h hN hi hN60 hn, if_pos (show rw5 T i 0 = (29 : Int32) from hk)]
  rfl
theorem q_J220 (i1 : MInv m τ) (k : Nat) : f_X9_runs_J220_55 m (nI k) m τ = bnd2 (f_X9_behindEnds m (nI (k + 1)) τ) fun v20 σ => some (.inl (v20, σ)) := by
  unfold f_X9_runs_J220_55 f_X9_runs_J223_55
  have e : nI k + (1 : Int32) = nI (k + 1) := by
    show nI k + nI 1 = _
    rw [nI_add]
  rw [e, mvc i1]
theorem nn_bind (j : Nat) (τ : ZT) : (bnd2 (f_X9_behindEnds m (nI j) τ) fun v20 σ => some (Sum.inl (v20, σ) : (Int32 × ZT) ⊕ (ZT ⊕ ZT))).bind (KMM m) = NN m j τ := by
  unfold NN
  cases f_X9_behindEnds m (nI j) τ with
  | none => rfl
  | some y => rfl
/-- behind a move that is no end -/
theorem q_J167 (i1 : MInv m τ) {k : Nat} {K : Int32} (h1 : ¬ K = (27 : Int32)) (h2 : K < (2400 : Int32)) (r : Int32) : f_X9_runs_J167_55 m (nI k) r K τ = bnd2 (f_X9_behindEnds m (nI (k + 1)) τ) fun v20 σ => some (.inl (v20, σ)) := by
  unfold f_X9_runs_J167_55 f_X9_runs_J190_55
  rw [if_neg h1, if_pos h2, q_J220 i1]
theorem mm_move (hb : RM m σ T w) (h : MRn m T bl σ τ (st, n, dn, ms, sl, tl, mi, d)) (hN : T 4 = nI N) (hi : i < N) (hN60 : N ≤ 60) (hn : n < 400) (hdn : dn ≤ 400) {v : Mv} (hv : RwM T i v) : ∃ τ', MRn m T bl σ τ' (goS T w bl v (st, n + 1, dn, ms, sl, tl, mi, d)).1 ∧ MM m i τ = if (goS T w bl v (st, n + 1, dn, ms, sl, tl, mi, d)).2 = true then some (.inl τ') else NN m (i + 1) τ' := by
  have hs := h.s942 (n + 1)
  obtain ⟨i1, eT, -⟩ := hs.base hb
  have hT := hb.2.2.1
  have e43 : zI (sI τ 942 m (nI (n + 1))) 943 m = nI dn := hs.2.1.2.2.1
  have e44 : zI (sI τ 942 m (nI (n + 1))) 944 m = ms := hs.2.1.2.2.2.1
  obtain ⟨τ1, r, f1, f2⟩ := q_omove hb hs (by omega) hv
  have hK : ∃ k, rw5 T i 0 = nI k ∧ 19 ≤ k ∧ k ≤ 23 := by
    obtain ⟨-, -, h1 | h1 | h1 | h1⟩ := hv
    · exact ⟨19, h1.2.2.1, by omega, by omega⟩
    · exact ⟨20, h1.2.1, by omega, by omega⟩
    · exact ⟨22, h1.2.1, by omega, by omega⟩
    · exact ⟨23, h1.2, by omega, by omega⟩
  obtain ⟨K, k1, k2, k3⟩ := hK
  have c1 : ¬ nI K = (29 : Int32) := fun hh => by
    have hh : nI K = nI 29 := hh
    rw [neq (by omega) (by omega)] at hh
    omega
  have c2 : ¬ nI K < (19 : Int32) := fun hh => by
    have hh : nI K < nI 19 := hh
    rw [nlt (by omega) (by omega)] at hh
    omega
  have c3 : ¬ (23 : Int32) < nI K := fun hh => by
    have hh : nI 23 < nI K := hh
    rw [nlt (by omega) (by omega)] at hh
    omega
  have c4 : ¬ nI K = (27 : Int32) := fun hh => by
    have hh : nI K = nI 27 := hh
    rw [neq (by omega) (by omega)] at hh
    omega
  have c5 : nI K < (2400 : Int32) := nI_lt (b := 2400) (by omega) (by decide)
  have hd := mm_head hb h hN hi hN60 hn
  rw [k1, if_neg c1, if_neg c2, if_neg c3, mgI i1, bind_s, e43, mgI i1, bind_s, e44, mvc i1, f1, bnd2_s] at hd
  rcases f2 with ⟨y1, y2, y3⟩ | ⟨y1, y2, y3, y4⟩
  · subst y1
    rw [y3]
    obtain ⟨i2, -, -⟩ := y2.base hb
    have hs2 := y2.s944 (ms + nI 1)
    obtain ⟨i3, -, -⟩ := hs2.base hb
    have e43' : zI (sI τ1 944 m (ms + nI 1)) 943 m = nI dn := hs2.2.1.2.2.1
    refine ⟨_, hs2, ?_⟩
    rw [if_neg (show ¬ false = true by decide), MM_st, hd, if_pos (show bI false = 0 from rfl)]
    unfold f_X9_runs_J146_55
    have em : ms + (1 : Int32) = ms + nI 1 := rfl
    rw [em, mpI i2, bind_s, mgI i3, bind_s, e43', if_neg (Int32.lt_irrefl), q_J167 i3 c4 c5, nn_bind]
  · subst y1
    obtain ⟨i2, -, -⟩ := (show MRn m T bl σ τ1 ((goS T w bl v (st, n + 1, dn, ms, sl, tl, mi, d)).1.1, (goS T w bl v (st, n + 1, dn, ms, sl, tl, mi, d)).1.2.1, (goS T w bl v (st, n + 1, dn, ms, sl, tl, mi, d)).1.2.2.1, (goS T w bl v (st, n + 1, dn, ms, sl, tl, mi, d)).1.2.2.2.1, (goS T w bl v (st, n + 1, dn, ms, sl, tl, mi, d)).1.2.2.2.2.1, (goS T w bl v (st, n + 1, dn, ms, sl, tl, mi, d)).1.2.2.2.2.2.1, (goS T w bl v (st, n + 1, dn, ms, sl, tl, mi, d)).1.2.2.2.2.2.2.1, (goS T w bl v (st, n + 1, dn, ms, sl, tl, mi, d)).1.2.2.2.2.2.2.2) from y2).base hb
    generalize goS T w bl v (st, n + 1, dn, ms, sl, tl, mi, d) = G at y2 y3 y4 ⊢
    obtain ⟨⟨st2, n2, dn2, ms2, sl2, tl2, mi2, d2⟩, ov⟩ := G
    have y3 : ms2 = ms := y3
    subst y3
    have hs2 := y2.s944 (ms2 + 0)
    have ez : ms2 + 0 = ms2 := Int32.add_zero _
    obtain ⟨i3, eT3, -⟩ := hs2.base hb
    have e43' : zI (sI τ1 944 m (ms2 + 0)) 943 m = nI dn2 := hs2.2.1.2.2.1
    have hag : Agr T (zAI (sI τ1 944 m (ms2 + 0)) (m + 9), zAI (sI τ1 944 m (ms2 + 0)) (m + 10)) st2 := hs2.2.2.2
    have hdone := q_isDone i3 (by rw [eT3]; exact hT)
    have hdd : sDone T (zAI (sI τ1 944 m (ms2 + 0)) (m + 9)) = sDone T st2.1 := hag.done
    rw [eT3, hdd] at hdone
    have hs3 : MRn m T bl σ (sI τ1 944 m (ms2 + 0)) (st2, n2, dn2, ms2, sl2, tl2, mi2, d2) := by
      have := hs2
      rw [ez] at this ⊢
      exact this
    refine ⟨_, hs3, ?_⟩
    rw [MM_st, hd, if_neg (show ¬ bI true = 0 by decide)]
    unfold f_X9_runs_J146_55
    rw [mpI i2, bind_s, mgI i3, bind_s, e43']
    rcases y4 with ⟨z1, z2⟩ | ⟨z1, z2⟩
    · skip
      replace z2 : ov = sDone T st2.1 := z2
      replace z1 : dn2 = dn + 1 := z1
      subst z1
      subst z2
      rw [if_pos (show nI dn < nI (dn + 1) from nI_lt (by omega) (by omega)), mvc i3, hdone, bnd2_s]
      cases sDone T st2.1 with
      | false =>
        rw [if_pos (show bI false = 0 from rfl), q_J167 i3 c4 c5, nn_bind]
        rfl
      | true =>
        rw [if_neg (show ¬ bI true = 0 by decide)]
        rfl
    · skip
      replace z1 : dn2 = dn := z1
      replace z2 : ov = false := z2
      subst z2
      subst z1
      rw [if_neg (Int32.lt_irrefl), q_J167 i3 c4 c5, nn_bind]
      rfl
/-- a loop is opened -/
theorem mm_loop (hb : RM m σ T w) {rd : Nat → Int32} (h : MRn m T bl (sAIr σ (m + 19) rd) τ (st, n, dn, ms, sl, tl, mi, d)) (hN : T 4 = nI N) (hi : i < N) (hN60 : N ≤ 60) (hn : n < 400) {c : Nat} (hk : rw5 T i 0 = nI 27) (h1 : rw5 T i 1 = nI (c + 1)) : ∃ τ', MRn m T bl (sAIr σ (m + 19) (up rd i (nI c))) τ' (st, n + 1, dn, ms, sl, tl, mi, d) ∧ MM m i τ = NN m (i + 1) τ' := by
  have hb' := hb.rn rd
  have hs := h.s942 (n + 1)
  obtain ⟨i1, eT, -⟩ := hs.base hb'
  have hs2 := hs.rn i (nI c)
  obtain ⟨i2, -, -⟩ := hs2.base (hb.rn _)
  refine ⟨_, hs2, ?_⟩
  have d1 := q_rd i1 eT (i := i) (j := 1) (by omega) (by decide)
  rw [h1] at d1
  have hsub : nI (c + 1) - (1 : Int32) = nI c := by
    show nI (c + 1) - nI 1 = nI c
    rw [nsub (by omega)]
    rfl
  have hst : stI (m + 19) (nI i) (nI c) (sI τ 942 m (nI (n + 1))) = some (sAI (sI τ 942 m (nI (n + 1))) (m + 19) i (nI c)) := ms_rounds i1 (by omega) _
  rw [MM_st, mm_head hb' h hN hi hN60 hn, hk, if_neg (show ¬ nI 27 = (29 : Int32) by decide), if_neg (show ¬ nI 27 < (19 : Int32) by decide), if_pos (show (23 : Int32) < nI 27 by decide)]
  unfold f_X9_runs_J167_55 f_X9_runs_J190_55
  have e1 : nI (120 + 5 * i + 0) + (1 : Int32) = nI (120 + 5 * i + 1) := ixk i 1
  rw [if_pos (show nI 27 = (27 : Int32) from rfl), mR949 i1, bind_s, mR900 i1, bind_s, e1, d1, bind_s, hsub, hst, bind_s, if_pos (show nI 27 < (2400 : Int32) by decide), q_J220 i2, nn_bind]
/-- a test -/
theorem mm_when (hb : RM m σ T w) (h : MRn m T bl σ τ (st, n, dn, ms, sl, tl, mi, d)) (hN : T 4 = nI N) (hi : i < N) (hN60 : N ≤ 60) (hn : n < 400) {K j : Nat} (hk : rw5 T i 0 = nI K) (hK : 2400 ≤ K ∧ K < 2500) (h4 : rw5 T i 4 = nI (j - 1)) (hj : 1 ≤ j) {tst : Bool} (ht : ∀ u, MRn m T bl σ u (st, n + 1, dn, ms, sl, tl, mi, d) → f_X9_holdsNow m (nI (120 + 5 * i + 0)) u = some (bI tst, u)) : ∃ τ', MRn m T bl σ τ' (st, n + 1, dn, ms, sl, tl, mi, d) ∧ MM m i τ = NN m (if tst = true then i + 1 else j) τ' := by
  have hs := h.s942 (n + 1)
  obtain ⟨i1, eT, -⟩ := hs.base hb
  have ht1 := ht _ hs
  refine ⟨_, hs, ?_⟩
  have d4 := q_rd i1 eT (i := i) (j := 4) (by omega) (by decide)
  rw [h4] at d4
  have a1 : ¬ nI K = (29 : Int32) := fun hh => by
    have hh : nI K = nI 29 := hh
    rw [neq (by omega) (by omega)] at hh
    omega
  have a2 : ¬ nI K < (19 : Int32) := fun hh => by
    have hh : nI K < nI 19 := hh
    rw [nlt (by omega) (by omega)] at hh
    omega
  have a3 : (23 : Int32) < nI K := nI_lt (a := 23) (by omega) (by omega)
  have a4 : ¬ nI K = (27 : Int32) := fun hh => by
    have hh : nI K = nI 27 := hh
    rw [neq (by omega) (by omega)] at hh
    omega
  have a5 : ¬ nI K < (2400 : Int32) := fun hh => by
    have hh : nI K < nI 2400 := hh
    rw [nlt (by omega) (by omega)] at hh
    omega
  have e4 : nI (120 + 5 * i + 0) + (4 : Int32) = nI (120 + 5 * i + 4) := ixk i 4
  have ej : nI (j - 1) + (1 : Int32) = nI j := by
    show nI (j - 1) + nI 1 = _
    rw [nI_add, show j - 1 + 1 = j by omega]
  rw [MM_st, mm_head hb h hN hi hN60 hn, hk, if_neg a1, if_neg a2, if_pos a3]
  unfold f_X9_runs_J167_55 f_X9_runs_J190_55
  rw [if_neg a4, if_neg a5, mvc i1, ht1, bnd2_s]
  cases tst with
  | true =>
    rw [if_neg (show ¬ bI true = 0 by decide), q_J220 i1, nn_bind, if_pos rfl]
  | false =>
    rw [if_pos (show bI false = 0 from rfl), mR900 i1, bind_s, e4, d4, bind_s]
    unfold f_X9_runs_J223_55
    rw [ej, mvc i1, nn_bind, if_neg (show ¬ false = true by decide)]
end
