set_option maxRecDepth 100000
section
variable {T : Nat → Int32} {w : Ot} {bl : Bool} {st : St} {n dn : Nat} {ms sl tl mi d : Int32}
theorem sWhy_swap (nw ly : Nat → Int32) (wo ma mo : Int32) (a b br : Nat) : sWhy T nw ly wo ma mo a (some b) br = sWhy T nw ly wo ma mo b (some a) br := by
  unfold sWhy oAt oLed oB
  by_cases h : nw a = nw b
  · simp only [h, beq_self_eq_true, and_true, Int32.add_comm (sBurd T ly a) (sBurd T ly b), beq_iff_eq, and_comm]
  · have h1 : ¬ (nw b == nw a) = true := fun hh => h (by simpa using (beq_iff_eq.mp hh).symm)
    have h2 : ¬ (nw a == nw b) = true := fun hh => h (beq_iff_eq.mp hh)
    rw [if_neg (fun hh => h1 hh.2), if_neg (fun hh => h2 hh.2)]
theorem sGo_swap (nw : Nat → Int32) {a b : Nat} (hab : a ≠ b) (br : Nat) : sGo T nw a (some b) br = sGo T nw b (some a) br := by
  funext k
  show up (up nw a (sOth T br (nw a))) b (sOth T br (nw b)) k = up (up nw b (sOth T br (nw b))) a (sOth T br (nw a)) k
  unfold up
  by_cases h1 : k = a
  · by_cases h2 : k = b
    · exact absurd (h1.symm.trans h2) hab
    · rw [if_neg h2, if_pos h1, if_pos h1]
  · by_cases h2 : k = b
    · rw [if_pos h2, if_neg h1, if_pos h2]
    · rw [if_neg h2, if_neg h1, if_neg h1, if_neg h2]
theorem goS_swap {a b br : Nat} (hab : a ≠ b) (s : Rs) : goS T w bl (1, a, some b, some br) s = goS T w bl (1, b, some a, some br) s := by
  unfold goS
  simp only [sWhy_swap s.1.1 s.1.2 w.1 w.2.1 w.2.2 a b br, sGo_swap s.1.1 hab br, isTwo, rTw, Option.isSome]
  rw [if_pos (show (1 : Nat) < 2 by decide), if_pos (show (1 : Nat) < 2 by decide)]
theorem goS_n (v : Mv) : (goS T w bl v (st, n, dn, ms, sl, tl, mi, d)).1.2.1 = n ∧ (goS T w bl v (st, n, dn, ms, sl, tl, mi, d)).1.2.2.1 ≤ dn + 1 := by
  unfold goS
  by_cases h2 : v.1 < 2
  · rw [if_pos h2]
    cases v.2.2.2 with
    | none => exact ⟨rfl, Nat.le_succ _⟩
    | some br =>
      show ((if 0 < sWhy T st.1 st.2 w.1 w.2.1 w.2.2 v.2.1 v.2.2.1 br then _ else _ : Rs × Bool).1.2.1 = n) ∧ (if 0 < sWhy T st.1 st.2 w.1 w.2.1 w.2.2 v.2.1 v.2.2.1 br then _ else _ : Rs × Bool).1.2.2.1 ≤ dn + 1
      by_cases hy : 0 < sWhy T st.1 st.2 w.1 w.2.1 w.2.2 v.2.1 v.2.2.1 br
      · rw [if_pos hy]
        exact ⟨rfl, Nat.le_succ _⟩
      · rw [if_neg hy]
        by_cases hs : (slp bl (T (14 + 9 * br + 8)) (isTwo v.2.2.1) d).1 = true
        · rw [if_pos hs]
          exact ⟨rfl, Nat.le_succ _⟩
        · rw [if_neg hs]
          exact ⟨rfl, Nat.le_refl _⟩
  · rw [if_neg h2]
    cases sMv T w v (st, n, dn, ms, sl, tl, mi, d).1 with
    | none => exact ⟨rfl, Nat.le_succ _⟩
    | some r => exact ⟨rfl, Nat.le_refl _⟩
theorem OtE.hang {w w' : Ot} (h : OtE w w') (hT : TW T) (nw ly : Nat → Int32) {b : Nat} (hb : b < fn T 1) (less : Int32) : sHang T nw ly w.1 w.2.1 w.2.2 b less = sHang T nw ly w'.1 w'.2.1 w'.2.2 b less := by
  have n6 := hT.2.1
  have := (hT.2.2.2.2.2.1 b hb).2.2.2.2.1
  unfold sHang
  rw [h.wgt nw ly (by omega), h.1]
end
/-- both sides of a run, and what stands still -/
def BS (x m t : Nat) (own : Nat → Nat) (σc σm : ZT) (T : Nat → Int32) (B P O : Nat → Nat) (w : Ot) (N : Nat) : Prop := RB x σc t T B P O w ∧ RM m σm T w ∧ T 4 = nI N ∧ N ≤ 60 ∧ own (x + 44) ≠ 3
def Cur (x m : Nat) (T : Nat → Int32) (bl : Bool) (σc σm : ZT) (rd : Nat → Int32) (τc τm : ZT) (s : Rs) (ov : Bool) : Prop := CRn x T bl σc τc s ov ∧ MRn m T bl (sAIr σm (m + 19) rd) τm s ∧ SV T s.1 ∧ s.2.1 ≤ 400 ∧ s.2.2.1 ≤ s.2.1
def Res (x m : Nat) (T : Nat → Int32) (bl : Bool) (σc σm : ZT) (rd : Nat → Int32) (i j : Nat) (C : Option ZT) (M : Option (ZT ⊕ ZT)) : Prop := ∃ (τc' τm' : ZT) (s : Rs) (ov : Bool) (rd' : Nat → Int32), C = some τc' ∧ Cur x m T bl σc σm rd' τc' τm' s ov ∧ (∀ k, k < i ∨ j ≤ k → rd' k = rd k) ∧ (ov = false → M = NN m j τm') ∧ (ov = true → M = some (.inl τm') ∨ M = some (.inr τm'))
section
variable {x m t N : Nat} {own : Nat → Nat} {σc σm τc τm : ZT} {T : Nat → Int32} {B P O : Nat → Nat} {bl : Bool} {w : Ot} {st : St} {n dn i j s : Nat} {ms sl tl mi d : Int32} {rd : Nat → Int32}
theorem mv_pl {k a b c : Nat} {v3 v4 : Int32} (hb : RB x σc t T B P O w) {τ τ' : ZT} (h : CInv x τ) {v : Mv} (hk : zK τ s = 19) (h0 : zI τ 1800 s = nI v.1) (h1 : zI τ 1801 s = nI v.2.1) (h2 : zI τ 1802 s = oI v.2.2.1) (h3 : zI τ 1803 s = oI v.2.2.2) (F : Nat → Nat → ZT → Option ZT) (he : f_X8_move (x + 44) (nI v.1) (nI v.2.1) (oI v.2.2.1) (oI v.2.2.2) τ = some τ') : vdoes F s (x + 44) τ = some τ' := by
  have g : ∀ f, gI 18 f s τ = some (zI τ f s) := fun f => gI_k hk
  unfold vdoes f_X18_does
  rw [if_neg (by omega), if_neg (by omega), if_pos hk, g, bind_s, g, bind_s, g, bind_s, g, bind_s, h0, h1, h2, h3, xv_44 h, he, bind_s]
/-- a plain step -/
theorem st_plain (hB : BS x m t own σc σm T B P O w N) (hp : PlA own σc T s i) (hi : i < N) (hn : n < 400) (hcur : Cur x m T bl σc σm rd τc τm (st, n, dn, ms, sl, tl, mi, d) false) (F : Nat → Nat → ZT → Option ZT) : Res x m T bl σc σm rd i (i + 1) (vdoes F s (x + 44) (sI τc 802 (x + 44) (nI (n + 1)))) (MM m i τm) := by
  obtain ⟨hb, hm, hN, hN60, h44⟩ := hB
  obtain ⟨hc, hr, hS, hn4, hdn⟩ := hcur
  have hS : SV T st := hS
  have hdn : dn ≤ n := hdn
  obtain ⟨ho, hp⟩ := hp
  have hs44 : s ≠ x + 44 := fun e => h44 (by rw [← e]; exact ho)
  have hc1 := hc.s802 (n + 1)
  obtain ⟨c1, -, -⟩ := hc1.base hb
  have eI : ∀ f, zI (sI τc 802 (x + 44) (nI (n + 1))) f s = zI σc f s := fun f => hc1.1.2.2.2.2.2.2.2.1 f s hs44
  have eK : zK (sI τc 802 (x + 44) (nI (n + 1))) s = zK σc s := by rw [hc1.1.1]
  have hT := hb.2.2.2.1
  have hw1 : w.1 = mI := hm.2.2.2.2
  -- any move
  have mv : ∀ v vm : Mv, MvW T v → v.1 < 4 → (v.1 = 0 → v.2.2.1 = none) → (v.1 = 1 → ∃ q, v.2.2.1 = some q) → RwM T i vm → (∀ s : Rs, goS T w bl vm s = goS T w bl v s) → zK σc s = 19 → zI σc 1800 s = nI v.1 → zI σc 1801 s = nI v.2.1 → zI σc 1802 s = oI v.2.2.1 → zI σc 1803 s = oI v.2.2.2 → Res x m T bl σc σm rd i (i + 1) (vdoes F s (x + 44) (sI τc 802 (x + 44) (nI (n + 1)))) (MM m i τm) := by
    intro v vm hv h3 h0 h1 hrw hsw k0 k1 k2 k3 k4
    obtain ⟨τc', f1, f2⟩ := p_move hb hv h3 h0 h1 hS hc1
    obtain ⟨τm', g1, g2⟩ := mm_move (hm.rn rd) hr hN hi hN60 hn (by omega) hrw
    rw [hsw] at g1 g2
    have hn1 := goS_n (T := T) (w := w) (bl := bl) (st := st) (n := n + 1) (dn := dn) (ms := ms) (sl := sl) (tl := tl) (mi := mi) (d := d) v
    have hv1 := goS_SV (bl := bl) (n := n + 1) (dn := dn) (ms := ms) (sl := sl) (tl := tl) (mi := mi) (d := d) hT hw1 hv hS
    have hgo := mv_pl (k := 0) (a := 0) (b := 0) (c := 0) (v3 := 0) (v4 := 0) hb c1 (eK.trans k0) ((eI _).trans k1) ((eI _).trans k2) ((eI _).trans k3) ((eI _).trans k4) F f1
    refine ⟨τc', τm', _, _, rd, hgo, ⟨f2, g1, hv1, by rw [hn1.1]; omega, by rw [hn1.1]; omega⟩, fun _ _ => rfl, fun hh => ?_, fun hh => ?_⟩
    · rw [g2, if_neg (by rw [hh]; decide)]
    · rw [g2, if_pos hh]; exact Or.inl rfl
  rcases hp with ⟨r0, k0⟩ | ⟨a, br, ha, hbr, r0, r1, r2, r3, k0, k1, k2, k3, k4⟩ | ⟨a, b, br, ha, hb2, hab, hbr, r0, r1, r2, r3, k0, k1, k2, k3, k4⟩ | ⟨a, l, ha, hl, r0, r1, r3, k0, k1, k2, k3, k4⟩ | ⟨a, ha, r0, r1, k0, k1, k2, k3, k4⟩
  · -- stop
    have hz : pZ 8 808 (x + 44) (1 : Int32) (sI τc 802 (x + 44) (nI (n + 1))) = some (sI (sI τc 802 (x + 44) (nI (n + 1))) 808 (x + 44) (bI true)) := if_pos ⟨xk_44 c1, Or.inr rfl⟩
    refine ⟨_, _, _, true, rd, ?_, ⟨hc1.s808 true, hr.s942 (n + 1), hS, ?_, ?_⟩, fun _ _ => rfl, fun hh => (by cases hh), fun _ => Or.inl (mm_stop (hm.rn rd) hr hN hi hN60 hn r0)⟩
    · unfold vdoes f_X19_does
      rw [eK, if_neg (by omega), if_neg (by omega), if_neg (by omega), if_pos k0, hz, bind_s]
    · show n + 1 ≤ 400
      omega
    · show dn ≤ n + 1
      omega
  · exact mv (0, a, none, some br) (0, a, none, some br) ⟨ha, fun _ => ⟨fun q hq => (by cases hq), br, rfl, hbr⟩, fun e => (by cases e)⟩ (show (0 : Nat) < 4 by decide) (fun _ => rfl) (fun e => (by cases e)) ⟨⟨ha, fun _ => ⟨fun q hq => (by cases hq), br, rfl, hbr⟩, fun e => (by cases e)⟩, r1, Or.inl ⟨rfl, rfl, r0, r2, br, rfl, r3⟩⟩ (fun _ => rfl) k0 k1 k2 k3 k4
  · have hw2 : ∀ u v : Nat, u < fn T 2 → v < fn T 2 → u ≠ v → MvW T (1, u, some v, some br) := fun u v hu hv huv => ⟨hu, fun _ => ⟨fun q hq => by cases hq; exact ⟨hv, fun e => huv e.symm⟩, br, rfl, hbr⟩, fun e => (by cases e)⟩
    by_cases hlt : a ≤ b
    · have e1 : min a b = a := Nat.min_eq_left hlt
      have e2 : max a b = b := Nat.max_eq_right hlt
      rw [e1] at k2
      rw [e2] at k3
      exact mv (1, a, some b, some br) (1, a, some b, some br) (hw2 a b ha hb2 hab) (show (1 : Nat) < 4 by decide) (fun e => (by cases e)) (fun _ => ⟨b, rfl⟩) ⟨hw2 a b ha hb2 hab, r1, Or.inr (Or.inl ⟨rfl, r0, ⟨b, rfl, r2⟩, br, rfl, r3⟩)⟩ (fun _ => rfl) k0 k1 k2 k3 k4
    · have e1 : min a b = b := Nat.min_eq_right (by omega)
      have e2 : max a b = a := Nat.max_eq_left (by omega)
      rw [e1] at k2
      rw [e2] at k3
      exact mv (1, b, some a, some br) (1, a, some b, some br) (hw2 b a hb2 ha (fun e => hab e.symm)) (show (1 : Nat) < 4 by decide) (fun e => (by cases e)) (fun _ => ⟨a, rfl⟩) ⟨hw2 a b ha hb2 hab, r1, Or.inr (Or.inl ⟨rfl, r0, ⟨b, rfl, r2⟩, br, rfl, r3⟩)⟩ (fun s => goS_swap hab s) k0 k1 k2 k3 k4
  · have hv : MvW T (2, a, none, some l) := ⟨ha, fun e => absurd (show (2 : Nat) < 2 from e) (by decide), fun _ => ⟨l, rfl, hl⟩⟩
    exact mv (2, a, none, some l) (2, a, none, some l) hv (show (2 : Nat) < 4 by decide) (fun e => (by cases e)) (fun e => (by cases e)) ⟨hv, r1, Or.inr (Or.inr (Or.inl ⟨rfl, r0, l, rfl, r3⟩))⟩ (fun _ => rfl) k0 k1 k2 k3 k4
  · have hv : MvW T (3, a, none, none) := ⟨ha, fun e => absurd (show (3 : Nat) < 2 from e) (by decide), fun e => (by cases e)⟩
    exact mv (3, a, none, none) (3, a, none, none) hv (show (3 : Nat) < 4 by decide) (fun e => (by cases e)) (fun e => (by cases e)) ⟨hv, r1, Or.inr (Or.inr (Or.inr ⟨rfl, r0⟩))⟩ (fun _ => rfl) k0 k1 k2 k3 k4
end
