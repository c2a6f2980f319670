set_option maxRecDepth 100000
section
variable {x m t : Nat} {σ τ : ZT} {T : Nat → Int32} {B P O : Nat → Nat}
theorem q_areTwo (h : MInv m σ) (hT : TW (zAI σ (m + 1))) (i j : Int32) : f_X9_areTwo m i j σ = some (bI (ok i (fn (zAI σ (m + 1)) 2) && ok j (fn (zAI σ (m + 1)) 2) && !decide (i = j)), σ) := by
  unfold f_X9_areTwo f_X9_areTwo_J25 f_X9_areTwo_J26
  have h1 := q_isPerson h hT i
  have h2 := q_isPerson h hT j
  cases e1 : ok i (fn (zAI σ (m + 1)) 2) with
  | false =>
    rw [e1] at h1
    simp (disch := first | exact h | omega) [mvc, h1, bnd2_s, bI, lI, rz]
  | true =>
    cases e2 : ok j (fn (zAI σ (m + 1)) 2) with
    | false =>
      rw [e1] at h1
      rw [e2] at h2
      simp (disch := first | exact h | omega) [mvc, h1, h2, bnd2_s, bI, lI, rz, n1n0]
    | true =>
      rw [e1] at h1
      rw [e2] at h2
      by_cases e : i = j
      · simp (disch := first | exact h | omega) only [mvc, h1, h2, bnd2_s, bI, lI, n1n0, if_true, if_false, if_pos e]
        simp [e, rz, lI]
      · simp (disch := first | exact h | omega) only [mvc, h1, h2, bnd2_s, bI, lI, n1n0, if_true, if_false, if_neg e]
        simp [e, rz, lI]
theorem why_now (h : SB x m σ t T B P O) (hn : NB x σ) (y : St) (ha : Agr T y (nowS T)) {a br : Nat} {b : Option Nat} (haa : a < fn T 2) (hb : ∀ q, b = some q → q < fn T 2) (hbr : br < fn T 1) : sWhC T (zAI σ (x + 17)) (zAI σ (x + 18)) (zI σ 503 (x + 10)) (zI σ 504 (x + 10)) (zI σ 505 (x + 10)) a b br = sWhy T y.1 y.2 (zI σ 926 m) (zI σ 928 m) (zI σ 927 m) a b br := by
  have hT := h.2.2.2.2.2.1
  have n8 := hT.2.2.1
  rw [sWhC_eq _ _ _ _ _ _ _ _ _ (by rw [hn.1]; exact fun hh => by rw [nI_mI (by omega)] at hh; exact hh)]
  have hN := h.2.2.2.2.2.2.2.1
  have e1 : sWhy T (zAI σ (x + 17)) (zAI σ (x + 18)) (zI σ 503 (x + 10)) (zI σ 504 (x + 10)) (zI σ 505 (x + 10)) a b br = sWhy T y.1 y.2 (zI σ 503 (x + 10)) (zI σ 504 (x + 10)) (zI σ 505 (x + 10)) a b br := (hN.trans ha.symm).why _ _ _ br haa hb
  rw [e1]
  refine OtE.why (w := (zI σ 503 (x + 10), zI σ 504 (x + 10), zI σ 505 (x + 10))) (w' := (zI σ 926 m, zI σ 928 m, zI σ 927 m)) ⟨?_, fun q hq => ?_⟩ hT y.1 y.2 a b hbr
  · show zI σ 503 (x + 10) = zI σ 926 m
    rw [hn.1, h.2.2.2.2.2.2.2.2.2.2.1]
  · show (if nI q = zI σ 504 (x + 10) then zI σ 505 (x + 10) else nI 0) = (if nI q = zI σ 928 m then zI σ 927 m else nI 0)
    rw [hn.2, h.2.2.2.2.2.2.2.2.2.2.2, if_neg (fun hh => by rw [nI_mI (by omega)] at hh; exact hh)]
    split <;> rfl
end
