set_option maxRecDepth 100000
/-! ===== both sides: what a search may change in all ===== -/
def SQ (x m : Nat) (σ σ' : ZT) : Prop := zK σ' = zK σ ∧ zL σ' = zL σ ∧ zAL σ' = zAL σ ∧ zAR σ' = zAR σ ∧ zN σ' = zN σ ∧ (zsz σ' = zsz σ ∧ zbc σ' = zbc σ ∧ zbs σ' = zbs σ) ∧ (∀ f a, ¬ (f = 500 ∧ a = x + 25) → zR σ' f a = zR σ f a) ∧
  (∀ f a, ¬ ((f = 7 ∨ f = 18) ∧ a = x) → ¬ (f = 704 ∧ a = x + 20) → ¬ (505 = f ∧ a = x + 25) → ¬ ((f = 902 ∨ f = 928 ∨ 933 ≤ f ∧ f ≤ 938) ∧ a = m) → zI σ' f a = zI σ f a) ∧
  ∀ a, ¬ (x + 21 ≤ a ∧ a ≤ x + 24) → ¬ (x + 32 ≤ a ∧ a ≤ x + 37) → ¬ (m + 9 ≤ a ∧ a ≤ m + 17) → zAI σ' a = zAI σ a
/-- what a search needs: both objects, one town, one state now -/
def SB (x m : Nat) (σ : ZT) (t : Nat) (T : Nat → Int32) (B P O : Nat → Nat) : Prop := x + 56 ≤ m ∧ (t + 2 < m + 9 ∨ m + 17 < t + 2) ∧ HC x σ t T B P O ∧ MInv m σ ∧ zAI σ (m + 1) = T ∧ TW T ∧ SV T (nowS T) ∧ Agr T (zAI σ (x + 17), zAI σ (x + 18)) (nowS T) ∧ zI σ 503 (x + 25) = mI ∧ zI σ 504 (x + 25) = mI ∧ zI σ 926 m = mI ∧ zI σ 927 m = nI 0
section
variable {x m t : Nat} {σ σ' σ'' : ZT} {T : Nat → Int32} {B P O : Nat → Nat}
theorem SQ.refl (σ : ZT) : SQ x m σ σ := ⟨rfl, rfl, rfl, rfl, rfl, ⟨rfl, rfl, rfl⟩, fun _ _ _ => rfl, fun _ _ _ _ _ _ => rfl, fun _ _ _ _ => rfl⟩
theorem SQ.trans (h : SQ x m σ σ') (g : SQ x m σ' σ'') : SQ x m σ σ'' := by
  obtain ⟨h1, h2, h3, h4, h5, ⟨h6, h7, h8⟩, h9, h10, h11⟩ := h
  obtain ⟨g1, g2, g3, g4, g5, ⟨g6, g7, g8⟩, g9, g10, g11⟩ := g
  exact ⟨g1.trans h1, g2.trans h2, g3.trans h3, g4.trans h4, g5.trans h5, ⟨g6.trans h6, g7.trans h7, g8.trans h8⟩, fun f a hn => (g9 f a hn).trans (h9 f a hn), fun f a z1 z2 z3 z4 => (g10 f a z1 z2 z3 z4).trans (h10 f a z1 z2 z3 z4), fun a z1 z2 z3 => (g11 a z1 z2 z3).trans (h11 a z1 z2 z3)⟩
theorem SQ.ofFX (h : FX x σ σ') : SQ x m σ σ' := by
  obtain ⟨h1, h2, h3, h4, h5, h6, h9, h10, h11⟩ := h
  exact ⟨h1, h2, h3, h4, h5, h6, h9, fun f a z1 z2 z3 z4 => h10 f a (by omega) z2, fun a z1 z2 z3 => h11 a z1 z2⟩
theorem SQ.ofFR (h : FR m 933 938 9 17 σ σ') : SQ x m σ σ' := by
  obtain ⟨h1, h2, h3, h4, h5, h6, h7, h8, h9⟩ := h
  exact ⟨h1, h2, h4, h5, h6, h7, fun f a _ => by rw [h3], fun f a z1 z2 z3 z4 => h8 f a (by omega), fun a z1 z2 z3 => h9 a z3⟩
theorem SQ.st7 (v : Int32) : SQ x m σ (sI σ 7 x v) := by
  refine ⟨rfl, rfl, rfl, rfl, rfl, ⟨rfl, rfl, rfl⟩, fun _ _ _ => rfl, fun f a z1 z2 z3 z4 => ?_, fun _ _ _ _ => rfl⟩
  rw [r_II, if_neg (by omega)]
theorem SQ.st902 (v : Int32) : SQ x m σ (sI σ 902 m v) := by
  refine ⟨rfl, rfl, rfl, rfl, rfl, ⟨rfl, rfl, rfl⟩, fun _ _ _ => rfl, fun f a z1 z2 z3 z4 => ?_, fun _ _ _ _ => rfl⟩
  rw [r_II, if_neg (by omega)]
theorem SQ.cinv (h : SQ x m σ σ') (g : CInv x σ) : CInv x σ' := by
  obtain ⟨h1, h2, h3, h4, h5, h6, h9, h10, h11⟩ := h
  obtain ⟨g1, g2, g3⟩ := g
  refine ⟨by rw [h1, h5]; exact g1, fun k hk => ?_, by rw [h4]; exact g3⟩
  rw [h9 _ _ (fun hh => cRf_ne k hk hh.1)]
  exact g2 k hk
theorem mFl_ne : ∀ k, k < 21 → mFl.getD k 0 ≠ 500 := by decide
theorem SQ.minv (h : SQ x m σ σ') (g : MInv m σ) : MInv m σ' := by
  obtain ⟨h1, h2, h3, h4, h5, h6, h9, h10, h11⟩ := h
  obtain ⟨g1, g2⟩ := g
  refine ⟨by rw [h1]; exact g1, fun k hk => ?_⟩
  rw [h9 _ _ (fun hh => mFl_ne k hk hh.1), h1, h5]
  exact g2 k hk
theorem SQ.tr (h : SQ x m σ σ') (ht : tOK x t) (hm : t + 2 < m + 9 ∨ m + 17 < t + 2) (g : TR σ t T B P O) : TR σ' t T B P O := by
  obtain ⟨h1, h2, h3, h4, h5, h6, h9, h10, h11⟩ := h
  unfold tOK at ht
  have e2 : zAI σ' (t + 2) = zAI σ (t + 2) := h11 _ (by omega) (by omega) (by omega)
  unfold TR at g ⊢
  rw [h1, h5, h4, e2, h9 604 t (by omega), h9 605 t (by omega), h9 606 t (by omega), h9 607 t (by omega), h9 608 t (by omega)]
  obtain ⟨g1, g2, g3, g4, ⟨g5, g6, g7, g8⟩, ⟨g9, g10, g11, g12⟩, ⟨g13, g14, g15, g16⟩⟩ := g
  refine ⟨g1, fun k hk => by rw [h10 _ _ (by omega) (by omega) (by omega) (by omega)]; exact g2 k hk, g3, g4, ⟨g5, g6, g7, fun b hb => ?_⟩, ⟨g9, g10, g11, fun b hb => ?_⟩, ⟨g13, g14, g15, fun b hb => ?_⟩⟩
  · obtain ⟨y1, y2, y3⟩ := g8 b hb
    exact ⟨y1, y2, fun i hi => by rw [h10 _ _ (by omega) (by omega) (by omega) (by omega)]; exact y3 i hi⟩
  · obtain ⟨y1, y2, y3⟩ := g12 b hb
    exact ⟨y1, y2, fun i hi => by rw [h10 _ _ (by omega) (by omega) (by omega) (by omega)]; exact y3 i hi⟩
  · obtain ⟨y1, y2, y3⟩ := g16 b hb
    exact ⟨y1, y2, fun i hi => by rw [h10 _ _ (by omega) (by omega) (by omega) (by omega)]; exact y3 i hi⟩
theorem SB.sq (h : SB x m σ t T B P O) (g : SQ x m σ σ') : SB x m σ' t T B P O := by
  obtain ⟨h0, hm, ⟨c1, c2, c3, c4⟩, h2, h3, h4, h5, h6, h7, h8, h9, h10⟩ := h
  have g' := g
  obtain ⟨g1, g2, g3, g4, g5, g6, g7, g8, g9⟩ := g
  refine ⟨h0, hm, ⟨g'.cinv c1, by rw [g7 _ _ (by omega)]; exact c2, g'.tr c4 hm c3, c4⟩, g'.minv h2, by rw [g9 _ (by omega) (by omega) (by omega)]; exact h3, h4, h5, ?_, ?_, ?_, ?_, ?_⟩
  · rw [g9 (x + 17) (by omega) (by omega) (by omega), g9 (x + 18) (by omega) (by omega) (by omega)]; exact h6
  · rw [g8 _ _ (by omega) (by omega) (by omega) (by omega)]; exact h7
  · rw [g8 _ _ (by omega) (by omega) (by omega) (by omega)]; exact h8
  · rw [g8 _ _ (by omega) (by omega) (by omega) (by omega)]; exact h9
  · rw [g8 _ _ (by omega) (by omega) (by omega) (by omega)]; exact h10
/-- what is thought otherwise comes to the same -/
def OtE (w w' : Ot) : Prop := w.1 = w'.1 ∧ ∀ p, p < 6 → (if nI p = w.2.1 then w.2.2 else nI 0) = (if nI p = w'.2.1 then w'.2.2 else nI 0)
theorem OtE.wgt {w w' : Ot} (h : OtE w w') (nw ly : Nat → Int32) {p : Nat} (hp : p < 6) : sWgt T nw ly w.2.1 w.2.2 p = sWgt T nw ly w'.2.1 w'.2.2 p := by
  unfold sWgt
  rw [h.2 p hp]
theorem OtE.why {w w' : Ot} (h : OtE w w') (hT : TW T) (nw ly : Nat → Int32) (a : Nat) (b : Option Nat) {br : Nat} (hb : br < fn T 1) : sWhy T nw ly w.1 w.2.1 w.2.2 a b br = sWhy T nw ly w'.1 w'.2.1 w'.2.2 a b br := by
  have h9 := hT.2.2.2.2.2.1 br hb
  have h6 := hT.2.1
  unfold sWhy sHang
  rw [h.1, h.wgt nw ly (show fn T (14 + 9 * br + 2) < 6 by omega)]
theorem OtE.mv {w w' : Ot} (h : OtE w w') (hT : TW T) {v : Mv} (hv : MvW T v) (s : St) : sMv T w v s = sMv T w' v s := by
  unfold sMv
  by_cases k0 : v.1 < 2
  · obtain ⟨-, br, h5, h6⟩ := hv.2.1 k0
    simp only [k0, if_true, h5]
    rw [h.why hT _ _ _ _ h6, h.1]
  · simp only [k0, if_false]
theorem OtE.ms {w w' : Ot} (h : OtE w w') (hT : TW T) : msM T w = msM T w' := by
  unfold msM
  refine List.map_congr_left fun v hv => ?_
  funext c
  unfold gM
  rw [h.mv hT (mvs_W hv).1]
theorem SB.ot (h : SB x m σ t T B P O) : msM T (cOt x σ) = msM T (mOt m σ) := by
  obtain ⟨h0, hm, h1, h2, h3, h4, h5, h6, h7, h8, h9, h10⟩ := h
  refine OtE.ms ⟨?_, fun p hp => ?_⟩ h4
  · show zI σ 503 (x + 25) = zI σ 926 m
    rw [h7, h9]
  · show (if nI p = zI σ 504 (x + 25) then zI σ 505 (x + 25) else nI 0) = (if nI p = zI σ 928 m then zI σ 927 m else nI 0)
    rw [h8, h10, if_neg (fun hh => by rw [nI_mI (by omega)] at hh; exact hh)]
    split <;> rfl
/-- the component comes to all -/
theorem SB.all (h : SB x m σ t T B P O) {K : Nat} (hK : BE (msM T (mOt m σ)) (enc T (nowS T)) K) : ∃ τ, f_X0_findAll x σ = some τ ∧ CX x σ t T (bfsK (msM T (mOt m σ)) (b0 (enc T (nowS T))) K) τ ∧ (mvs T).length ≤ 92 ∧ BI (VM T) 129600 (bfsK (msM T (mOt m σ)) (b0 (enc T (nowS T))) K) := by
  obtain ⟨τ, K', a1, a2, a3, a4⟩ := p_findAll h.2.2.1 h.2.2.2.2.2.1 h.2.2.2.2.2.2.1 h.2.2.2.2.2.2.2.1
  rw [h.ot] at a2 a3
  cases a2.uniq hK
  exact ⟨τ, a1, a3, a4, (bfsK_inv (Cl_M h.2.2.2.2.2.1 _) (VM_enc h.2.2.2.2.2.1 h.2.2.2.2.2.2.1) K).1⟩
theorem SB.mall (h : SB x m σ t T B P O) {K : Nat} (hK : BE (msM T (mOt m σ)) (enc T (nowS T)) K) : ∃ τ, f_X9_comes m σ = some τ ∧ CR m σ (enc T (nowS T)) (bfsK (msM T (mOt m σ)) (b0 (enc T (nowS T))) K) τ := by
  have e : zAI σ (m + 1) = T := h.2.2.2.2.1
  obtain ⟨τ, K', a1, a2, a3⟩ := q_comes h.2.2.2.1 (by rw [e]; exact h.2.2.2.2.2.1) (by rw [e]; exact h.2.2.2.2.2.2.1)
  rw [e] at a2 a3
  cases a2.uniq hK
  exact ⟨τ, a1, a3⟩
theorem SB.K (h : SB x m σ t T B P O) : ∃ K, BE (msM T (mOt m σ)) (enc T (nowS T)) K := BE.ex (Cl_M h.2.2.2.2.2.1 _) (VM_enc h.2.2.2.2.2.1 h.2.2.2.2.2.2.1)
theorem CR.sq {c0 : Nat} {s : Bf} {τ : ZT} (h : CR m σ c0 s τ) : SQ x m σ τ := SQ.ofFR (h.1.mono (by omega) (by omega) (by omega) (by omega))
theorem mOt_sq (g : SQ x m σ σ') (h : SB x m σ t T B P O) : msM T (mOt m σ') = msM T (mOt m σ) := by
  have h' := h.sq g
  refine OtE.ms ⟨?_, fun p hp => ?_⟩ h.2.2.2.2.2.1
  · show zI σ' 926 m = zI σ 926 m
    rw [h'.2.2.2.2.2.2.2.2.2.2.1, h.2.2.2.2.2.2.2.2.2.2.1]
  · show (if nI p = zI σ' 928 m then zI σ' 927 m else nI 0) = (if nI p = zI σ 928 m then zI σ 927 m else nI 0)
    rw [h'.2.2.2.2.2.2.2.2.2.2.2, h.2.2.2.2.2.2.2.2.2.2.2]
    split <;> split <;> rfl
/-- a method of both sides answers alike, and only what a search may change has changed; both tell the same status -/
def Pr (x m : Nat) (σ : ZT) (c d : ZT → Option (Int32 × ZT)) : Prop := ∃ r τ1 τ2, c σ = some (r, τ1) ∧ d τ1 = some (r, τ2) ∧ SQ x m σ τ2 ∧ zI τ2 7 x = zI τ2 902 m
theorem pr_states (h : SB x m σ t T B P O) : Pr x m σ (f_X0_states x) (f_X9_states m) := by
  have hx : CInv x σ := h.2.2.1.1
  have h1 := h.sq (SQ.st7 (nI 0))
  obtain ⟨K, hK⟩ := h1.K
  obtain ⟨τ1, a1, a2, -, -⟩ := h1.all hK
  have q1 : SQ x m (sI σ 7 x (nI 0)) τ1 := SQ.ofFX a2.1
  have h2 := h1.sq q1
  rw [← mOt_sq q1 h1] at hK a2
  obtain ⟨τ2, b1, b2⟩ := h2.mall hK
  have q2 : SQ x m τ1 τ2 := b2.sq
  have m1 : MInv m τ1 := h2.2.2.2.1
  have m2 : MInv m τ2 := q2.minv m1
  have x1 : CInv x τ1 := h2.2.2.1.1
  have x0 : CInv x (sI σ 7 x (nI 0)) := h1.2.2.1.1
  have r18 := a2.2.2.2.1
  have r937 := b2.2.2.2.1
  refine ⟨nI (bfsK (msM T (mOt m τ1)) (b0 (enc T (nowS T))) K).2.length, τ1, sI τ2 902 m (nI 0), ?_, ?_, (((SQ.st7 (nI 0)).trans q1).trans q2).trans (SQ.st902 _), ?_⟩
  · unfold f_X0_states
    simp (disch := first | exact hx | exact x0 | exact x1 | omega) only [xp_0, lI, bind_s, xv_0, a1, xi_0, r18]
  · unfold f_X9_states f_X9_gives
    simp (disch := first | exact m1 | exact m2 | omega) only [mvc, lI, bind_s, b1, mgI, r937, mpI, bnd2_s]
  · have hne : x ≠ m := by have := h.1; omega
    rw [r_II, if_neg (by omega), r_II, if_pos ⟨rfl, rfl⟩, b2.1.i (by omega), a2.1.2.2.2.2.2.2.2.1 7 x (by omega) (by omega), r_II, if_pos ⟨rfl, rfl⟩]
end
