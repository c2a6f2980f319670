set_option maxRecDepth 100000
section
variable {m : Nat} {σ : ZT}
theorem NL_at (s : St) : zAI (NL m σ s) (m + 9) = s.1 := zAIr_at _ _
theorem NL_lies (s : St) : zAI (NL m σ s) (m + 10) = s.2 := by
  unfold NL
  rw [zAIr_ne _ (by omega), zAIr_at]
theorem NL_ne (s : St) {a : Nat} (h1 : a ≠ m + 9) (h2 : a ≠ m + 10) : zAI (NL m σ s) a = zAI σ a := by
  unfold NL
  rw [zAIr_ne _ h1, zAIr_ne _ h2]
theorem NL_I (s : St) : zI (NL m σ s) = zI σ := rfl
theorem NL_inv (h : MInv m σ) (s : St) : MInv m (NL m σ s) := h
theorem NL_set9 (s : St) (r : Nat → Int32) : sAIr (NL m σ s) (m + 9) r = NL m σ (r, s.2) := sAIr_sAIr _ _ _
theorem NL_set10 (s : St) (r : Nat → Int32) : sAIr (NL m σ s) (m + 10) r = NL m σ (s.1, r) := by
  unfold NL
  rw [sAIr_comm (by omega), sAIr_sAIr]
theorem NL_NL (s s' : St) : NL m (NL m σ s) s' = NL m σ s' := by
  show sAIr (sAIr (NL m σ s) (m + 10) s'.2) (m + 9) s'.1 = _
  rw [NL_set10, NL_set9]
theorem NL_self : NL m σ (zAI σ (m + 9), zAI σ (m + 10)) = σ := by
  unfold NL
  rw [sAIr_self]
  have := sAIr_self (σ := σ) (m + 9)
  exact this
def opened (T : Nat → Int32) (c : Nat) (s : St) : St := (mix (fn T 2) (dcP (fn T 3) c) s.1, mix (fn T 3) (dcL c) s.2)
theorem opened_agr (T : Nat → Int32) (c : Nat) (s : St) : Agr T (opened T c s) (dec T c) := by
  refine ⟨fun p hp => ?_, fun l hl => ?_⟩
  · show mix _ _ _ p = _
    unfold mix
    rw [if_pos hp]
    rfl
  · show mix _ _ _ l = _
    unfold mix
    rw [if_pos hl]
    rfl
theorem q_opens' (h : MInv m σ) (hT : TW (zAI σ (m + 1))) {c : Nat} (hc : c < 2 ^ 31) : f_X9_opens m (nI c) σ = some (NL m σ (opened (zAI σ (m + 1)) c (zAI σ (m + 9), zAI σ (m + 10)))) := q_opens h hT hc
/-- the move number k of the model's list is v -/
def MvA (m : Nat) (σ : ZT) (k : Nat) (v : Mv) : Prop := zAI σ (m + 11) k = nI v.1 ∧ zAI σ (m + 12) k = nI v.2.1 ∧ zAI σ (m + 13) k = oI v.2.2.1 ∧ zAI σ (m + 14) k = oI v.2.2.2
def mOt (m : Nat) (σ : ZT) : Ot := (zI σ 926 m, zI σ 928 m, zI σ 927 m)
theorem q_moved79 (h : MInv m σ) (hT : TW (zAI σ (m + 1))) {r : St} (hr : SV (zAI σ (m + 1)) r) : f_X9_moved_J79 m (nI 1) (NL m σ r) = some (nI (enc (zAI σ (m + 1)) r), NL m σ r) := by
  have h1 : MInv m (NL m σ r) := h
  have e1 : zAI (NL m σ r) (m + 1) = zAI σ (m + 1) := NL_ne _ (by omega) (by omega)
  have hc := q_code h1 (by rw [e1]; exact hT) (by rw [e1, NL_at]; exact fun p hp => (hr.1 p hp).1) (by rw [e1, NL_lies]; exact fun p hp => (hr.2.1 p hp).1)
  rw [e1, NL_at, NL_lies] at hc
  unfold f_X9_moved_J79 f_X9_moved_J92
  rw [mvc h1, hc, bnd2_s]
  simp (disch := omega) [lI, neq]
theorem q_moved (h : MInv m σ) (hT : TW (zAI σ (m + 1))) {c k : Nat} (hc : c < 2 ^ 31) (hk : k < 100) {v : Mv} (hv : MvW (zAI σ (m + 1)) v) (h3 : v.1 < 4) (hm : MvA m σ k v) (hs : SV (zAI σ (m + 1)) (dec (zAI σ (m + 1)) c)) :
    ∃ s', f_X9_moved m (nI c) (nI k) σ = some (oI ((sMv (zAI σ (m + 1)) (mOt m σ) v (dec (zAI σ (m + 1)) c)).map (enc (zAI σ (m + 1)))), NL m σ s') := by
  obtain ⟨m1, m2, m3, m4⟩ := hm
  have hag := opened_agr (zAI σ (m + 1)) c (zAI σ (m + 9), zAI σ (m + 10))
  have ho := q_opens' h hT hc
  generalize opened (zAI σ (m + 1)) c (zAI σ (m + 9), zAI σ (m + 10)) = s1 at hag ho
  have hs1 : SV (zAI σ (m + 1)) s1 := hs.agr hag.symm
  have h1 : MInv m (NL m σ s1) := h
  have e1 : zAI (NL m σ s1) (m + 1) = zAI σ (m + 1) := NL_ne _ (by omega) (by omega)
  have e11 : zAI (NL m σ s1) (m + 11) = zAI σ (m + 11) := NL_ne _ (by omega) (by omega)
  have e12 : zAI (NL m σ s1) (m + 12) = zAI σ (m + 12) := NL_ne _ (by omega) (by omega)
  have e13 : zAI (NL m σ s1) (m + 13) = zAI σ (m + 13) := NL_ne _ (by omega) (by omega)
  have e14 : zAI (NL m σ s1) (m + 14) = zAI σ (m + 14) := NL_ne _ (by omega) (by omega)
  have hT1 : TW (zAI (NL m σ s1) (m + 1)) := by rw [e1]; exact hT
  have fin : ∀ r, sMv (zAI σ (m + 1)) (mOt m σ) v s1 = some r → f_X9_moved_J79 m (nI 1) (NL m σ r) = some (oI ((sMv (zAI σ (m + 1)) (mOt m σ) v (dec (zAI σ (m + 1)) c)).map (enc (zAI σ (m + 1)))), NL m σ r) := by
    intro r hr
    rw [q_moved79 h hT (hs1.mv hT hv hr)]
    rcases hag.mv (mOt m σ) hv with ⟨a1, -⟩ | ⟨r1, r2, a1, a2, a3⟩
    · rw [hr] at a1; cases a1
    · cases hr.symm.trans a1
      rw [a2, a3.enc']
      rfl
  have fin0 : sMv (zAI σ (m + 1)) (mOt m σ) v s1 = none → f_X9_moved_J79 m (nI 0) (NL m σ s1) = some (oI ((sMv (zAI σ (m + 1)) (mOt m σ) v (dec (zAI σ (m + 1)) c)).map (enc (zAI σ (m + 1)))), NL m σ s1) := by
    intro hr
    rcases hag.mv (mOt m σ) hv with ⟨a1, a2⟩ | ⟨r1, r2, a1, a2, a3⟩
    · rw [a2]
      unfold f_X9_moved_J79 f_X9_moved_J92
      simp [lI, mI_eq, oI]
    · rw [hr] at a1; cases a1
  obtain ⟨g1, g2, g3⟩ := hv
  have hq4 := hT.2.2.2.1
  have hb8 := hT.2.2.1
  unfold f_X9_moved
  simp (disch := first | exact h1 | omega) only [mvc h, ho, bind_s, mR929, ml_moveKind, e11, m1, lI]
  by_cases k0 : v.1 < 2
  · obtain ⟨g4, br, g5, g6⟩ := g2 k0
    simp (disch := first | exact h1 | omega) only [nlt, k0, if_true, bind_s, mR930, mR931, mR932, ml_moveOne, ml_moveTwo, ml_moveThird, e12, e13, e14, m2, m3, m4, g5, mvc]
    have hg := q_goesOver (a := v.2.1) (b := v.2.2.1) (br := br) h1 hT1 (by rw [e1]; exact g1) (by rw [e1]; exact g4) (by rw [e1]; exact g6)
    rw [e1, NL_at, NL_lies, NL_I, NL_set9] at hg
    show ∃ s', bnd2 (f_X9_goesOver m (nI v.2.1) (oI v.2.2.1) (nI br) (NL m σ s1)) (fun v20 σ => f_X9_moved_J79 m v20 σ) = _
    rw [hg]
    have hsm : sMv (zAI σ (m + 1)) (mOt m σ) v s1 = if nI br = zI σ 926 m ∨ 0 < sWhy (zAI σ (m + 1)) s1.1 s1.2 (zI σ 926 m) (zI σ 928 m) (zI σ 927 m) v.2.1 v.2.2.1 br then none else some (sGo (zAI σ (m + 1)) s1.1 v.2.1 v.2.2.1 br, s1.2) := by
      unfold sMv mOt
      simp only [k0, if_true, g5]
      by_cases z1 : nI br = zI σ 926 m
      · simp [z1]
      · simp only [z1, if_false, false_or]
    by_cases z : nI br = zI σ 926 m ∨ 0 < sWhy (zAI σ (m + 1)) s1.1 s1.2 (zI σ 926 m) (zI σ 928 m) (zI σ 927 m) v.2.1 v.2.2.1 br
    · rw [if_pos z] at hsm ⊢
      exact ⟨s1, fin0 hsm⟩
    · rw [if_neg z] at hsm ⊢
      exact ⟨_, fin _ hsm⟩
  · simp (disch := first | exact h1 | omega) only [nlt, k0, if_false, bind_s, mR929, mR930, mR932, ml_moveKind, ml_moveOne, ml_moveThird, e11, e12, e14, m1, m2, m4, mvc, neq]
    by_cases k2 : v.1 = 2
    · obtain ⟨l, g5, g6⟩ := g3 k2
      have hl := q_lifts (a := v.2.1) (l := l) h1 hT1 (by rw [e1]; exact g1) (by rw [e1]; exact g6)
      rw [e1, NL_at, NL_lies, NL_set10] at hl
      simp only [k2, if_true, g5]
      show ∃ s', bnd2 (f_X9_lifts m (nI v.2.1) (nI l) (NL m σ s1)) (fun v20 σ => f_X9_moved_J79 m v20 σ) = _
      rw [hl]
      have hsm : sMv (zAI σ (m + 1)) (mOt m σ) v s1 = if s1.2 l = s1.1 v.2.1 ∧ lo (zAI σ (m + 1)) s1.2 v.2.1 = none ∧ ¬ zAI σ (m + 1) (86 + 5 * v.2.1 + 3) < zAI σ (m + 1) (106 + 2 * l) then some (s1.1, up s1.2 l (nI (6 + v.2.1))) else none := by
        unfold sMv
        simp only [k0, k2, if_false, if_true, g5]
        simp
      by_cases z : s1.2 l = s1.1 v.2.1 ∧ lo (zAI σ (m + 1)) s1.2 v.2.1 = none ∧ ¬ zAI σ (m + 1) (86 + 5 * v.2.1 + 3) < zAI σ (m + 1) (106 + 2 * l)
      · rw [if_pos z] at hsm ⊢
        exact ⟨_, fin _ hsm⟩
      · rw [if_neg z] at hsm ⊢
        exact ⟨s1, fin0 hsm⟩
    · have hd := q_drops (a := v.2.1) h1 hT1 (by rw [e1]; exact g1)
      rw [e1, NL_at, NL_lies] at hd
      simp only [k2, if_false]
      rw [hd]
      have hsm : sMv (zAI σ (m + 1)) (mOt m σ) v s1 = match lo (zAI σ (m + 1)) s1.2 v.2.1 with
        | none => none
        | some l => some (s1.1, up s1.2 l (s1.1 v.2.1)) := by
        unfold sMv
        simp only [k0, k2, if_false]
        cases lo (zAI σ (m + 1)) s1.2 v.2.1 <;> rfl
      cases hz : lo (zAI σ (m + 1)) s1.2 v.2.1 with
      | none =>
        rw [hz] at hsm
        exact ⟨s1, fin0 hsm⟩
      | some l =>
        rw [hz] at hsm
        refine ⟨(s1.1, up s1.2 l (s1.1 v.2.1)), ?_⟩
        show bnd2 (some (nI 1, sAIr (NL m σ s1) (m + 10) (up s1.2 l (s1.1 v.2.1)))) _ = _
        rw [NL_set10, bnd2_s]
        exact fin _ hsm
theorem q_isDoneAt (h : MInv m σ) (hT : TW (zAI σ (m + 1))) {c : Nat} (hc : c < 2 ^ 31) : ∃ s', f_X9_isDoneAt m (nI c) σ = some (bI (sDone (zAI σ (m + 1)) (dec (zAI σ (m + 1)) c).1), NL m σ s') := by
  have hag := opened_agr (zAI σ (m + 1)) c (zAI σ (m + 9), zAI σ (m + 10))
  have ho := q_opens' h hT hc
  generalize opened (zAI σ (m + 1)) c (zAI σ (m + 9), zAI σ (m + 10)) = s1 at hag ho
  have h1 : MInv m (NL m σ s1) := h
  have e1 : zAI (NL m σ s1) (m + 1) = zAI σ (m + 1) := NL_ne _ (by omega) (by omega)
  have hd := q_isDone h1 (by rw [e1]; exact hT)
  rw [e1, NL_at, hag.done] at hd
  refine ⟨s1, ?_⟩
  unfold f_X9_isDoneAt
  rw [mvc h, ho, bind_s, mvc h1, hd, bnd2_s]
  unfold rz bI
  split <;> simp [lI]
end
