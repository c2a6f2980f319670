set_option maxRecDepth 100000
/-! ===== acts: what is now is set on both sides ===== -/
section
variable {x m t a1 a2 : Nat} {σ σ' σ'' : ZT} {own : Nat → Nat} {T T' : Nat → Int32} {N : Nat → Int64} {B P O : Nat → Nat} {A Fx Fm : Nat → Prop} {o : Option Nat}
theorem DF.refl (hf : ∀ a, zsz σ ≤ a → zK σ a = 0) : DF x m A Fx Fm σ σ := ⟨⟨Nat.le_refl _, hf⟩, fun _ _ => ⟨rfl, rfl⟩, fun _ _ _ _ _ _ _ => rfl, fun _ _ _ _ _ => ⟨fun _ => rfl, fun _ => rfl, rfl, rfl, rfl⟩, fun _ _ => ⟨rfl, rfl⟩, fun _ _ => ⟨rfl, rfl⟩⟩
theorem DF.trans (h : DF x m A Fx Fm σ σ') (g : DF x m A Fx Fm σ' σ'') : DF x m A Fx Fm σ σ'' := by
  obtain ⟨⟨h1, h2⟩, h3, h4, h5, h6, h7⟩ := h
  obtain ⟨⟨g1, g2⟩, g3, g4, g5, g6, g7⟩ := g
  refine ⟨⟨Nat.le_trans h1 g1, g2⟩, fun a ha => ?_, fun f a ha f1 f2 f3 hA => ?_, fun a ha n1 n2 hA => ?_, fun f hf => ?_, fun f hf => ?_⟩
  · exact ⟨(g3 a (by omega)).1.trans (h3 a ha).1, (g3 a (by omega)).2.trans (h3 a ha).2⟩
  · exact (g4 f a (by omega) f1 f2 f3 hA).trans (h4 f a ha f1 f2 f3 hA)
  · obtain ⟨k1, k2, k3, k4, k5⟩ := g5 a (by omega) n1 n2 hA
    obtain ⟨l1, l2, l3, l4, l5⟩ := h5 a ha n1 n2 hA
    exact ⟨fun f => (k1 f).trans (l1 f), fun f => (k2 f).trans (l2 f), k3.trans l3, k4.trans l4, k5.trans l5⟩
  · exact ⟨(g6 f hf).1.trans (h6 f hf).1, (g6 f hf).2.trans (h6 f hf).2⟩
  · exact ⟨(g7 f hf).1.trans (h7 f hf).1, (g7 f hf).2.trans (h7 f hf).2⟩
theorem DF.sIx (hf : ∀ a, zsz σ ≤ a → zK σ a = 0) {f : Nat} (h : Fx f) (hne : x ≠ m) (v : Int32) : DF x m A Fx Fm σ (sI σ f x v) := by
  refine ⟨⟨Nat.le_refl _, hf⟩, fun _ _ => ⟨rfl, rfl⟩, fun _ _ _ _ _ _ _ => rfl, fun a _ n1 n2 _ => ⟨fun g => ?_, fun _ => rfl, rfl, rfl, rfl⟩, fun g hg => ⟨?_, rfl⟩, fun g _ => ⟨?_, rfl⟩⟩
  · rw [r_II, if_neg (fun hh => n1 hh.2)]
  · rw [r_II, if_neg (fun hh => hg (by rw [hh.1]; exact h))]
  · rw [r_II, if_neg (fun hh => hne hh.2.symm)]
theorem DF.sIm (hf : ∀ a, zsz σ ≤ a → zK σ a = 0) {f : Nat} (h : Fm f) (hne : x ≠ m) (v : Int32) : DF x m A Fx Fm σ (sI σ f m v) := by
  refine ⟨⟨Nat.le_refl _, hf⟩, fun _ _ => ⟨rfl, rfl⟩, fun _ _ _ _ _ _ _ => rfl, fun a _ n1 n2 _ => ⟨fun g => ?_, fun _ => rfl, rfl, rfl, rfl⟩, fun g hg => ⟨?_, rfl⟩, fun g hg => ⟨?_, rfl⟩⟩
  · rw [r_II, if_neg (fun hh => n2 hh.2)]
  · rw [r_II, if_neg (fun hh => hne hh.2)]
  · rw [r_II, if_neg (fun hh => hg (by rw [hh.1]; exact h))]
theorem DF.sIa (hf : ∀ a, zsz σ ≤ a → zK σ a = 0) {b : Nat} (h : A b) (hx : b ≠ x) (hm : b ≠ m) (f : Nat) (v : Int32) : DF x m A Fx Fm σ (sI σ f b v) := by
  refine ⟨⟨Nat.le_refl _, hf⟩, fun _ _ => ⟨rfl, rfl⟩, fun _ _ _ _ _ _ _ => rfl, fun a _ n1 n2 hA => ⟨fun g => ?_, fun _ => rfl, rfl, rfl, rfl⟩, fun g hg => ⟨?_, rfl⟩, fun g hg => ⟨?_, rfl⟩⟩
  · rw [r_II, if_neg (fun hh => hA (by rw [hh.2]; exact h))]
  · rw [r_II, if_neg (fun hh => hx hh.2.symm)]
  · rw [r_II, if_neg (fun hh => hm hh.2.symm)]
theorem DF.air (hf : ∀ a, zsz σ ≤ a → zK σ a = 0) {b : Nat} (h : A b) (r : Nat → Int32) : DF x m A Fx Fm σ (sAIr σ b r) := ⟨⟨Nat.le_refl _, hf⟩, fun _ _ => ⟨rfl, rfl⟩, fun _ _ _ _ _ _ _ => rfl, fun a _ n1 n2 hA => ⟨fun g => rfl, fun _ => rfl, zAIr_ne _ (fun hh => hA (by rw [hh]; exact h)), rfl, rfl⟩, fun g hg => ⟨rfl, rfl⟩, fun g hg => ⟨rfl, rfl⟩⟩
theorem DF.ai (hf : ∀ a, zsz σ ≤ a → zK σ a = 0) {b : Nat} (h : A b) (i : Nat) (v : Int32) : DF x m A Fx Fm σ (sAI σ b i v) := by
  rw [sAI_r]; exact DF.air hf h _
theorem fn_te {i : Nat} (e : T' i = T i) : fn T' i = fn T i := by unfold fn; rw [e]
theorem TW.te (h : TW T) (e : ∀ i, i < 110 → T' i = T i) : TW T' := by
  have ef : ∀ i, i < 110 → fn T' i = fn T i := fun i hi => fn_te (e i hi)
  obtain ⟨h1, h2, h3, h4, h5, h6, h7, h8⟩ := h
  refine ⟨fun k hk => by rw [e k (by omega), ef k (by omega)]; exact h1 k hk, by rw [ef 0 (by omega)]; exact h2, by rw [ef 1 (by omega)]; exact h3, by rw [ef 2 (by omega)]; exact h4, by rw [ef 3 (by omega)]; exact h5, fun b hb => ?_, fun q hq => ?_, fun l hl => ?_⟩
  · rw [ef 1 (by omega)] at hb
    obtain ⟨k1, k2⟩ := h6 b hb
    refine ⟨fun i hi => by rw [e _ (by omega), ef _ (by omega)]; exact k1 i hi, ?_⟩
    rw [ef 0 (by omega), ef (14 + 9 * b) (by omega), ef (14 + 9 * b + 1) (by omega), ef (14 + 9 * b + 2) (by omega), ef (14 + 9 * b + 3) (by omega), ef (14 + 9 * b + 4) (by omega), ef (14 + 9 * b + 5) (by omega), ef (14 + 9 * b + 6) (by omega), ef (14 + 9 * b + 7) (by omega), ef (14 + 9 * b + 8) (by omega)]
    exact k2
  · rw [ef 2 (by omega)] at hq
    rw [ef 0 (by omega), e (86 + 5 * q) (by omega), ef (86 + 5 * q) (by omega), e (86 + 5 * q + 1) (by omega), ef (86 + 5 * q + 1) (by omega), e (86 + 5 * q + 2) (by omega), ef (86 + 5 * q + 2) (by omega), e (86 + 5 * q + 3) (by omega), ef (86 + 5 * q + 3) (by omega), e (86 + 5 * q + 4) (by omega), ef (86 + 5 * q + 4) (by omega)]
    exact h7 q hq
  · rw [ef 3 (by omega)] at hl
    rw [ef 0 (by omega), e (106 + 2 * l) (by omega), ef (106 + 2 * l) (by omega), e (106 + 2 * l + 1) (by omega), ef (106 + 2 * l + 1) (by omega)]
    exact h8 l hl
theorem TR.te (h : TR σ t T B P O) (hT : TW T) (e : ∀ i, i < 110 → T' i = T i) : TR σ t T' B P O := by
  have ef : ∀ i, i < 110 → fn T' i = fn T i := fun i hi => fn_te (e i hi)
  have n1 := hT.2.2.1
  have n2 := hT.2.2.2.1
  have n3 := hT.2.2.2.2.1
  obtain ⟨h1, h2, h3, ⟨p1, p2, p3, p4⟩, ⟨h5, h6, h7, h8⟩, ⟨h9, h10, h11, h12⟩, h13, h14, h15, h16⟩ := h
  refine ⟨h1, fun k hk => by rw [e k (by omega)]; exact h2 k hk, h3, ⟨p1, p2, p3, fun k hk => by rw [e _ (by omega)]; exact p4 k hk⟩, ⟨h5, h6, h7, fun b hb => ?_⟩, ⟨h9, h10, h11, fun b hb => ?_⟩, h13, h14, h15, fun b hb => ?_⟩
  · rw [ef 1 (by omega)] at hb
    exact ⟨(h8 b hb).1, (h8 b hb).2.1, fun i hi => by rw [e _ (by omega)]; exact (h8 b hb).2.2 i hi⟩
  · rw [ef 2 (by omega)] at hb
    exact ⟨(h12 b hb).1, (h12 b hb).2.1, fun i hi => by rw [e _ (by omega)]; exact (h12 b hb).2.2 i hi⟩
  · rw [ef 3 (by omega)] at hb
    exact ⟨(h16 b hb).1, (h16 b hb).2.1, fun i hi => by rw [e _ (by omega)]; exact (h16 b hb).2.2 i hi⟩
theorem TRS.te (h : TRS own t T B P O) (e : ∀ i, i < 110 → T' i = T i) : TRS own t T' B P O := by
  unfold TRS
  rw [fn_te (e 1 (by omega)), fn_te (e 2 (by omega)), fn_te (e 3 (by omega))]
  exact h
theorem NMS.te (h : NMS σ t T B P O N) (e : ∀ i, i < 110 → T' i = T i) : NMS σ t T' B P O N := by
  unfold NMS
  rw [fn_te (e 0 (by omega)), fn_te (e 1 (by omega)), fn_te (e 2 (by omega)), fn_te (e 3 (by omega))]
  exact h
theorem rw5_te {k j : Nat} (e : ∀ i, 116 ≤ i → T' i = T i) : rw5 T' k j = rw5 T k j := e _ (by omega)
theorem PlA.te {s i : Nat} (h : PlA own σ T s i) (e : ∀ i, ¬ (110 ≤ i ∧ i ≤ 115) → T' i = T i) : PlA own σ T' s i := by
  have er : ∀ k j, rw5 T' k j = rw5 T k j := fun k j => e _ (by omega)
  unfold PlA at h ⊢
  rw [fn_te (e 1 (by omega)), fn_te (e 2 (by omega)), fn_te (e 3 (by omega)), er, er, er, er]
  exact h
theorem OpA.te {s i : Nat} (h : OpA σ T s i) (e : ∀ i, ¬ (110 ≤ i ∧ i ≤ 115) → T' i = T i) : OpA σ T' s i := by
  have er : ∀ k j, rw5 T' k j = rw5 T k j := fun k j => e _ (by omega)
  unfold OpA at h ⊢
  rw [fn_te (e 0 (by omega)), fn_te (e 1 (by omega)), fn_te (e 2 (by omega)), er, er, er]
  exact h
theorem BkA.mono {S S' : Nat → Nat → Nat → Prop} {s i j : Nat} (h : BkA own σ S s i j) (hS : ∀ s i j, S s i j → S' s i j) : BkA own σ S' s i j := by
  obtain ⟨ar, n, st, pos, h1, h2, h3, h4, h5, h6, h7, h8, h9⟩ := h
  exact ⟨ar, n, st, pos, h1, h2, h3, h4, h5, h6, h7, h8, fun k hk => ⟨(h9 k hk).1, hS _ _ _ (h9 k hk).2⟩⟩
theorem StA.te (e : ∀ i, ¬ (110 ≤ i ∧ i ≤ 115) → T' i = T i) : ∀ (d s i j : Nat), StA own σ T d s i j → StA own σ T' d s i j := by
  have er : ∀ k j, rw5 T' k j = rw5 T k j := fun k j => e _ (by omega)
  intro d
  induction d with
  | zero => intro s i j h; exact ⟨h.1.te e, h.2⟩
  | succ d ih =>
    intro s i j h
    rcases h with h | ⟨h1, h2, h3, h4, h5, h6, h7⟩
    · exact Or.inl ⟨h.1.te e, h.2⟩
    · exact Or.inr ⟨h1, h2, h3.mono ih, by rw [er]; exact h4, by rw [er]; exact h5, by rw [er]; exact h6, h7.te e⟩
theorem ORD.te (h : ORD own σ T o) (e : ∀ i, ¬ (110 ≤ i ∧ i ≤ 115) → T' i = T i) : ORD own σ T' o := by
  cases o with
  | none =>
    show T' 4 = mI
    rw [e 4 (by omega)]
    exact h
  | some l =>
    obtain ⟨n, h1, h2, h3, h4, h5⟩ := h
    exact ⟨n, by rw [e 4 (by omega)]; exact h1, h2, h3, h4, h5.mono (StA.te e 3)⟩
/-- what is now is set -/
theorem RZ.act (h : RZ x m own σ) (hd : DF x m (fun a => a = x + 17 ∨ a = x + 18 ∨ a = m + 1 ∨ a = m + 9 ∨ a = m + 10) (fun f => f = 7) (fun f => f = 902) σ σ') (hR : ∀ f a, a < zsz σ → zR σ' f a = zR σ f a) (hs : zI σ' 7 x = zI σ' 902 m) (he : ∀ i, ¬ (110 ≤ i ∧ i ≤ 115) → zAI σ' (m + 1) i = zAI σ (m + 1) i) (hS : SV (zAI σ' (m + 1)) (nowS (zAI σ' (m + 1)))) (hA : Agr (zAI σ' (m + 1)) (zAI σ' (x + 17), zAI σ' (x + 18)) (nowS (zAI σ' (m + 1)))) : RZ x m own σ' := by
  obtain ⟨h1, h2, h3, h4, ⟨⟨f1, f2, f3, f4, f5, f6⟩, f7, f8⟩, ⟨b1, b2, b3, b4, b5⟩, h7, h8, ⟨t, n1, n2, B, P, O, s1, s2, s3, s4, s5, s6, s7⟩, ⟨n, k1, k2, k3, k4⟩, h11, h12⟩ := h
  have hz := h2.1
  have hO := hd.owns h2 h1 (fun a ha => by have := h2.lt ha; omega)
  have hc := hd.cinv hz h1 (fun k hk => by
    have : ∀ k, k < 33 → cRs.getD k 0 ≠ 17 ∧ cRs.getD k 0 ≠ 18 := by decide
    have h1 := this k hk
    have h2 := cRs_lt k hk
    omega) (by omega) h3
  have hmv := hd.minv hz h1 (by omega) h4
  have h2' := h2.df hd
  obtain ⟨-, d1, d2, d3, d4, d5⟩ := hd
  have ga : ∀ a, a < x + 78 → a ≠ x → a ≠ m → ¬ (a = x + 17 ∨ a = x + 18 ∨ a = m + 1 ∨ a = m + 9 ∨ a = m + 10) → _ := fun a q0 q1 q2 q3 => d3 a (by omega) q1 q2 q3
  refine ⟨h1, h2', hc, hmv, ⟨⟨?_, ?_, ?_, ?_, ?_, ?_⟩, ?_, ?_⟩, ⟨hs, ?_, ?_, ?_, ?_⟩, ?_, ?_, ?_, ?_, ?_, ?_⟩
  · rw [(ga (x + 25) (by omega) (by omega) (by omega) (by omega)).1]; exact f1
  · rw [(ga (x + 25) (by omega) (by omega) (by omega) (by omega)).1]; exact f2
  · rw [(ga (x + 10) (by omega) (by omega) (by omega) (by omega)).1]; exact f3
  · rw [(ga (x + 10) (by omega) (by omega) (by omega) (by omega)).1]; exact f4
  · rw [(ga (x + 45) (by omega) (by omega) (by omega) (by omega)).1]; exact f5
  · rw [(ga (x + 45) (by omega) (by omega) (by omega) (by omega)).1]; exact f6
  · rw [(d5 926 (by omega)).1]; exact f7
  · rw [(d5 927 (by omega)).1]; exact f8
  · rw [(d4 8 (by omega)).2, (d5 903 (by omega)).2]; exact b2
  · rw [(d4 9 (by omega)).2, (d5 904 (by omega)).2]; exact b3
  · rw [(d4 3 (by omega)).1, (d5 916 (by omega)).1]; exact b4
  · rw [(d4 4 (by omega)).1, (d5 917 (by omega)).1]; exact b5
  · exact h7.ag (d4 2 (by omega)).1 (d5 910 (by omega)).1 (ga (x + 6) (by omega) (by omega) (by omega) (by omega)).2.2.1 (ga (m + 6) (by omega) (by omega) (by omega) (by omega)).2.2.1
  · exact h8.ag (fun i hi a ha => hO a (by omega)) (fun i hi => hR _ _ (by omega)) (ga (m + 3) (by omega) (by omega) (by omega) (by omega)).2.2.1 (ga (m + 4) (by omega) (by omega) (by omega) (by omega)).2.2.1 (ga (m + 5) (by omega) (by omega) (by omega) (by omega)).2.2.2.1
  · have te : ∀ i, i < 110 → zAI σ' (m + 1) i = zAI σ (m + 1) i := fun i hi => he i (by omega)
    have gO : ∀ a, own a = 2 → Ag σ σ' a := fun a ha => hO a (by omega)
    refine ⟨t, by rw [hR _ _ (by omega)]; exact n1, n2, B, P, O, (s1.ag s2 gO).te s3 te, s2.te te, s3.te te, hS, hA, ?_, ?_⟩
    · rw [(ga (m + 2) (by omega) (by omega) (by omega) (by omega)).2.2.2.1]
      exact (s6.ag s2 gO).te te
    · rw [hR _ _ (by omega)]
      exact (s7.ag (fun a ha => hO a (by omega))).te he
  · refine ⟨n, k1, by rw [(d4 12 (by omega)).1]; exact k2, by rw [(d5 953 (by omega)).1]; exact k3, fun k hk => ?_⟩
    have e19 := (ga (x + 19) (by omega) (by omega) (by omega) (by omega)).2.2.2.2
    have eL := (ga (m + 2) (by omega) (by omega) (by omega) (by omega)).2.2.2.1
    have eI : (fun i => zAI σ' (m + 1) (430 * (k + 1) + i)) = (fun i => zAI σ (m + 1) (430 * (k + 1) + i)) := by
      funext i
      exact he _ (by omega)
    rcases k4 k hk with q | ⟨hh, sp, c1, c2, q1, ⟨o1, o2, o3, o4⟩, q2, q3⟩
    · exact Or.inl (by rw [e19]; exact q)
    · have eh := hO hh (by omega)
      have es := hO sp (by omega)
      have ea := hO c1 (by omega)
      have eb := hO c2 (by omega)
      refine Or.inr ⟨hh, sp, c1, c2, by rw [e19]; exact q1, ⟨o1, o2, o3, o4⟩, ?_, fun hkn => ?_⟩
      · rw [eh.1, es.1, ea.1, ea.2.1, eb.1, eb.2.1, eh.2.2.1 400 (by decide) (by decide) (by decide), es.2.2.1 501 (by decide) (by decide) (by decide), es.2.2.1 502 (by decide) (by decide) (by decide)]
        exact q2
      · obtain ⟨t', t1, t2, t3⟩ := q3 hkn
        have l1 := h2.lt (a := sp) (by omega)
        have l2 := h2.lt (a := hh) (by omega)
        refine ⟨t', by rw [hR _ _ l1.1]; exact t1, t2, ?_⟩
        rw [hR _ _ l2.1, eI, eL]
        exact t3.ag (fun a ha => hO a (by omega)) ea.2.2.2.2.2.1 eb.2.2.2.2.2.1
  · exact h11.ag (d4 24 (by omega)).1 (d5 952 (by omega)).1 (d4 27 (by omega)).1 (ga (x + 54) (by omega) (by omega) (by omega) (by omega)).2.2.1 (ga (x + 55) (by omega) (by omega) (by omega) (by omega)).2.2.1 (ga (m + 20) (by omega) (by omega) (by omega) (by omega)).2.2.1 (ga (m + 21) (by omega) (by omega) (by omega) (by omega)).2.2.1
  · exact h12.ag (d4 22 (by omega)).1 (d5 939 (by omega)).1 (fun a q1 q2 => (ga a (by omega) (by omega) (by omega) (by omega)).2.2.1) (ga (m + 18) (by omega) (by omega) (by omega) (by omega)).2.2.1
end
