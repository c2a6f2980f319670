set_option maxRecDepth 100000
section
variable {x m t : Nat} {σ τ : ZT} {T : Nat → Int32} {B P O : Nat → Nat}
def gW (T : Nat → Int32) (i j k : Int32) : Bool := ok i (fn T 2) && (decide (j = mI) || (ok j (fn T 2) && !decide (i = j))) && ok k (fn T 1)
theorem p_whyG (h : HC x σ t T B P O) (hT : TW T) (i j k : Int32) : f_X0_why x i j k σ = f_X0_why_J40 x i j k (if gW T i j k = true then nI 0 else nI 1) x σ := by
  have hc : CInv x σ := h.1
  have h1 := p_isPerson h hT i
  have h2 := p_isPerson h hT j
  have h3 := p_isBridge h hT k
  unfold f_X0_why f_X0_why_J39 f_X0_why_J27 f_X0_why_J39 gW
  simp only [xv_0 hc, h1, h2, h3, bnd2_s, lI, mI_eq]
  cases e1 : ok i (fn T 2) with
  | false => simp [bI]
  | true =>
    by_cases e2 : j = mI
    · cases e3 : ok k (fn T 1) <;> simp [bI, e2, n1n0]
    · cases e4 : ok j (fn T 2) with
      | false => simp [bI, e2, n1n0]
      | true =>
        by_cases e5 : i = j
        · simp [bI, e2, n1n0, if_pos e5, e5]
        · cases e3 : ok k (fn T 1) <;> simp [bI, e2, n1n0, e5]
theorem q_whyG (h : MInv m σ) (hT : TW (zAI σ (m + 1))) (i j k : Int32) : f_X9_why m i j k σ = if gW (zAI σ (m + 1)) i j k = true then ((f_X9_takesNow m σ).bind fun σ => bnd2 (vc 9 m σ (f_X9_whyNot m i j k σ)) fun v6 σ => bnd2 (vc 9 m σ (f_X9_gives m v6 σ)) fun v7 σ => some (v7, σ)) else some (mI, sI σ 902 m (nI 1)) := by
  have h1 := q_isPerson h hT i
  have h2 := q_areTwo h hT i j
  have h3 := q_isBridge h hT k
  unfold f_X9_why f_X9_why_J22 f_X9_why_J30 f_X9_refuse gW
  simp only [mvc h, h1, h2, h3, bnd2_s, lI, mI_eq, mpI h, bind_s]
  cases e1 : ok i (fn (zAI σ (m + 1)) 2) with
  | false => simp [bI]
  | true =>
    by_cases e2 : j = mI
    · cases e3 : ok k (fn (zAI σ (m + 1)) 1) <;> simp [bI, e2, n1n0]
    · cases e4 : ok j (fn (zAI σ (m + 1)) 2) with
      | false => simp [bI, e2, n1n0]
      | true =>
        by_cases e5 : i = j
        · simp [bI, e2, n1n0, e5]
        · cases e3 : ok k (fn (zAI σ (m + 1)) 1) <;> simp [bI, e2, n1n0, e5]
end
