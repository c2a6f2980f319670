set_option maxRecDepth 100000
section
variable {x m t N : Nat} {own : Nat → Nat} {σc σm τc τm : ZT} {T : Nat → Int32} {B P O : Nat → Nat} {bl ov : Bool} {w : Ot} {S : Rs} {i j s k c ar : Nat} {rd : Nat → Int32} {F : Nat → Nat → ZT → Option ZT}
theorem StA.lt : ∀ (d s i j : Nat), StA own σc T d s i j → i < j := by
  intro d s i j h
  cases d with
  | zero =>
    obtain ⟨-, h⟩ := h
    omega
  | succ d =>
    rcases h with ⟨-, h⟩ | ⟨-, h, -⟩
    · omega
    · omega
theorem PlA.row (h : PlA own σc T s i) : ¬ rw5 T i 0 = nI 28 := by
  rcases h.2 with ⟨r0, -⟩ | ⟨a, br, -, -, r0, -⟩ | ⟨a, b, br, -, -, -, -, r0, -⟩ | ⟨a, l, -, -, r0, -⟩ | ⟨a, -, r0, -⟩ <;> rw [r0] <;> decide
theorem OpA.row (h : OpA σc T s i) : ¬ rw5 T i 0 = nI 28 := by
  rcases h with ⟨n, -, -, -, r0, -⟩ | ⟨p, pl, -, -, -, r0, -⟩ | ⟨b, -, -, r0, -⟩ | ⟨p, -, -, r0, -⟩ <;> rw [r0] <;> decide
theorem PlA.kind (h : PlA own σc T s i) : zK σc s = 17 ∨ zK σc s = 18 ∨ zK σc s = 19 ∨ zK σc s = 20 := by
  rcases h.2 with ⟨-, r0⟩ | ⟨a, br, -, -, -, -, -, -, r0, -⟩ | ⟨a, b, br, -, -, -, -, -, -, -, -, r0, -⟩ | ⟨a, l, -, -, -, -, -, r0, -⟩ | ⟨a, -, -, -, r0, -⟩ <;> omega
theorem OpA.kind (h : OpA σc T s i) : zK σc s = 17 ∨ zK σc s = 18 := by
  rcases h with ⟨n, -, -, r0, -⟩ | ⟨p, pl, -, -, r0, -⟩ | ⟨b, -, r0, -⟩ | ⟨p, -, r0, -⟩ <;> omega
theorem StA.row : ∀ (d s i j : Nat), StA own σc T d s i j → ¬ rw5 T i 0 = nI 28 := by
  intro d s i j h
  cases d with
  | zero => exact h.1.row
  | succ d =>
    rcases h with ⟨h, -⟩ | ⟨-, -, -, -, -, -, h⟩
    · exact h.row
    · exact h.row
theorem StA.kind : ∀ (d s i j : Nat), StA own σc T d s i j → zK σc s = 17 ∨ zK σc s = 18 ∨ zK σc s = 19 ∨ zK σc s = 20 := by
  intro d s i j h
  cases d with
  | zero => exact h.1.kind
  | succ d =>
    rcases h with ⟨h, -⟩ | ⟨-, -, -, -, -, -, h⟩
    · exact h.kind
    · have := h.kind
      omega
theorem Cur.cinv (hB : BS x m t own σc σm T B P O w N) (h : Cur x m T bl σc σm rd τc τm S ov) : CInv x τc := h.1.1.cinv hB.1.1
theorem Cur.minv (hB : BS x m t own σc σm T B P O w N) (h : Cur x m T bl σc σm rd τc τm S ov) : MInv m τm ∧ zAI τm (m + 1) = T := by
  obtain ⟨st, n, dn, ms, sl, tl, mi, d⟩ := S
  obtain ⟨i1, eT, -⟩ := h.2.1.base (hB.2.1.rn rd)
  exact ⟨i1, eT⟩
/-! the loop over a block's steps -/
theorem bl_n (hc : CRn x T bl σc τc S ov) (hs : s ≠ x + 44) (hk : zK σc s = 17 ∨ zK σc s = 18) {n : Nat} (h6 : zI σc 1501 s = nI n) : gIB 1501 s τc = some (nI n) := by
  have eK : zK τc = zK σc := hc.1.1
  have eI : zI τc 1501 s = zI σc 1501 s := hc.1.2.2.2.2.2.2.2.1 1501 s hs
  unfold gIB
  by_cases h : zK τc s = 17
  · rw [if_pos h, gI_k h, eI, h6]
  · have h18 : zK τc s = 18 := by
      rw [eK] at h ⊢
      omega
    rw [if_neg h, gI_k h18, eI, h6]
theorem bl_r (hc : CRn x T bl σc τc S ov) (hk : zK σc s = 17 ∨ zK σc s = 18) (h1 : zR σc 1500 s = some ar) : gRB 1500 s τc = some ar := by
  have eK : zK τc = zK σc := hc.1.1
  have eR : zR τc = zR σc := hc.1.2.2.1
  rw [← eR] at h1
  unfold gRB
  by_cases h : zK τc s = 17
  · rw [if_pos h, gR_k h h1]
  · have h18 : zK τc s = 18 := by
      rw [eK] at h ⊢
      omega
    rw [if_neg h, gR_k h18 h1]
theorem bl_over (hB : BS x m t own σc σm T B P O w N) (hc : CRn x T bl σc τc S true) (hs : s ≠ x + 44) (hk : zK σc s = 17 ∨ zK σc s = 18) {n : Nat} (h6 : zI σc 1501 s = nI n) (q : Int32) : f_X15_all_L2 F s (x + 44) q τc = some (.inr τc) := by
  have c1 : CInv x τc := hc.1.cinv hB.1.1
  have e8 : zI τc 808 (x + 44) = bI true := hc.2.2.1
  unfold f_X15_all_L2
  rw [bl_n hc hs hk h6, bind_s]
  by_cases hq : q < nI n
  · rw [if_pos hq, xi_44 c1, bind_s, e8, if_neg (show ¬ bI true = 0 by decide)]
  · rw [if_neg hq]
theorem bl_end (hc : CRn x T bl σc τc S ov) (hs : s ≠ x + 44) (hk : zK σc s = 17 ∨ zK σc s = 18) {n : Nat} (h6 : zI σc 1501 s = nI n) : f_X15_all_L2 F s (x + 44) (nI n) τc = some (.inr τc) := by
  unfold f_X15_all_L2
  rw [bl_n hc hs hk h6, bind_s, if_neg (Int32.lt_irrefl)]
theorem bl_go (hB : BS x m t own σc σm T B P O w N) (hc : CRn x T bl σc τc S false) (hs : s ≠ x + 44) (hk : zK σc s = 17 ∨ zK σc s = 18) {n : Nat} (h6 : zI σc 1501 s = nI n) (h5 : n ≤ 30) (hkn : k < n) (h1 : zR σc 1500 s = some ar) (h3 : zK σc ar = 31) (h4 : n ≤ zN σc ar) (hch : zAR σc ar k = some c) (hck : zK σc c = 17 ∨ zK σc c = 18 ∨ zK σc c = 19 ∨ zK σc c = 20) : f_X15_all_L2 F s (x + 44) (nI k) τc = (F c (x + 44) τc).bind (fun σ => some (.inl (nI (k + 1), σ))) := by
  have c1 : CInv x τc := hc.1.cinv hB.1.1
  have e8 : zI τc 808 (x + 44) = bI false := hc.2.2.1
  have eK : zK τc = zK σc := hc.1.1
  have eN : zN τc = zN σc := hc.1.2.2.2.2.2.1
  have eA : zAR τc = zAR σc := hc.1.2.2.2.2.1
  have hl : ldR 10 ar (nI k) τc = some c := by
    rw [ldR_k (by rw [eK]; exact h3) (by rw [eN]; omega) (by omega), eA, hch]
  have hv : ∀ y : Option ZT, vc4 c τc y = y := fun y => if_pos (by rw [eK]; exact hck)
  have e : nI k + (1 : Int32) = nI (k + 1) := by
    show nI k + nI 1 = _
    rw [nI_add]
  unfold f_X15_all_L2
  rw [bl_n hc hs hk h6, bind_s, if_pos (nI_lt hkn (by omega)), xi_44 c1, bind_s, e8, if_pos (show bI false = 0 from rfl), bl_r hc hk h1, bind_s, hl, bind_s, hv, e]
/-- a block -/
theorem st_block (hB : BS x m t own σc σm T B P O w N) {d : Nat} (IH : ∀ s i j, StA own σc T d s i j → j ≤ N → ∀ τc τm rd S, Cur x m T bl σc σm rd τc τm S false → Res x m T bl σc σm rd i j (F s (x + 44) τc) (MM m i τm)) (hk : zK σc s = 17 ∨ zK σc s = 18) (ho : own s = 3) (hbk : BkA own σc (StA own σc T d) s i j) (hj : j ≤ N) (hcur : Cur x m T bl σc σm rd τc τm S false) : Res x m T bl σc σm rd i j (f_X15_all F s (x + 44) τc) (NN m i τm) := by
  obtain ⟨ar, n, ch, pos, h1, h2, h3, h4, h5, h6, h7, h8, h9⟩ := hbk
  have hs : s ≠ x + 44 := fun e => hB.2.2.2.2 (by rw [← e]; exact ho)
  have hle : ∀ q k, k + q = n → pos k ≤ j := by
    intro q
    induction q with
    | zero =>
      intro k hk
      rw [show k = n by omega, h8]
      exact Nat.le_refl _
    | succ q ih =>
      intro k hk
      have a := StA.lt _ _ _ _ (h9 k (by omega)).2
      have b := ih (k + 1) (by omega)
      omega
  have main : ∀ q k, k + q = n → ∀ τc τm rd S, Cur x m T bl σc σm rd τc τm S false → Res x m T bl σc σm rd (pos k) j (loopC (fun u : (Int32 × ZT) => f_X15_all_L2 F s (x + 44) u.1 u.2) (nI k, τc)) (NN m (pos k) τm) := by
    intro q
    induction q with
    | zero =>
      intro k hkq τc τm rd S hcur
      have hkn : k = n := by omega
      subst hkn
      refine ⟨τc, τm, S, false, rd, ?_, hcur, fun _ _ => rfl, fun _ => by rw [h8], fun e => (by cases e)⟩
      rw [loopC_step]
      show Option.bind (f_X15_all_L2 F s (x + 44) (nI k) τc) _ = _
      rw [bl_end hcur.1 hs hk h6]
      rfl
    | succ q ih =>
      intro k hkq τc τm rd S hcur
      obtain ⟨hch, hst⟩ := h9 k (by omega)
      have hlt := StA.lt _ _ _ _ hst
      have hle1 := hle q (k + 1) (by omega)
      obtain ⟨τc1, τm1, S1, ov, rd1, e1, hcur1, hrd1, hf, ht⟩ := IH (ch k) (pos k) (pos (k + 1)) hst (by omega) τc τm rd S hcur
      obtain ⟨i1, eT⟩ := hcur.minv hB
      have hnn : NN m (pos k) τm = MM m (pos k) τm := nn_row i1 eT hB.2.2.1 hB.2.2.2.1 (by omega) (StA.row _ _ _ _ hst)
      have hloop : loopC (fun u : (Int32 × ZT) => f_X15_all_L2 F s (x + 44) u.1 u.2) (nI k, τc) = loopC (fun u : (Int32 × ZT) => f_X15_all_L2 F s (x + 44) u.1 u.2) (nI (k + 1), τc1) := by
        rw [loopC_step]
        show Option.bind (f_X15_all_L2 F s (x + 44) (nI k) τc) _ = _
        rw [bl_go hB hcur.1 hs hk h6 h5 (by omega) h1 h3 h4 hch (StA.kind _ _ _ _ hst), e1]
        rfl
      cases ov with
      | true =>
        have hl2 : loopC (fun u : (Int32 × ZT) => f_X15_all_L2 F s (x + 44) u.1 u.2) (nI (k + 1), τc1) = some τc1 := by
          rw [loopC_step]
          show Option.bind (f_X15_all_L2 F s (x + 44) (nI (k + 1)) τc1) _ = _
          rw [bl_over hB hcur1.1 hs hk h6]
          rfl
        exact ⟨τc1, τm1, S1, true, rd1, by rw [hloop, hl2], hcur1, fun k' hk' => hrd1 k' (by omega), fun e => (by cases e), fun _ => by rw [hnn]; exact ht rfl⟩
      | false =>
        obtain ⟨τc2, τm2, S2, ov2, rd2, e2, hcur2, hrd2, hf2, ht2⟩ := ih (k + 1) (by omega) τc1 τm1 rd1 S1 hcur1
        exact ⟨τc2, τm2, S2, ov2, rd2, by rw [hloop, e2], hcur2, fun k' hk' => (hrd2 k' (by omega)).trans (hrd1 k' (by omega)), fun e => by rw [hnn, hf rfl]; exact hf2 e, fun e => by rw [hnn, hf rfl]; exact ht2 e⟩
  obtain ⟨τc2, τm2, S2, ov2, rd2, e2, hcur2, hrd2, hf2, ht2⟩ := main n 0 (by omega) τc τm rd S hcur
  rw [h7] at hrd2 hf2 ht2
  refine ⟨τc2, τm2, S2, ov2, rd2, ?_, hcur2, hrd2, hf2, ht2⟩
  unfold f_X15_all f_X15_all_J33
  have e2' : loopC (fun u : (Int32 × ZT) => f_X15_all_L2 F s (x + 44) u.1 u.2) ((0 : Int32), τc) = some τc2 := e2
  rw [e2', bind_s]
end
