set_option maxRecDepth 100000
/-! ===== the model comes to all states ===== -/
def nowS (T : Nat → Int32) : St := (fun p => T (110 + p), fun l => T (114 + l))
def gM (T : Nat → Int32) (w : Ot) (v : Mv) (c : Nat) : Option Nat := (sMv T w v (dec T c)).map (enc T)
def msM (T : Nat → Int32) (w : Ot) : Ms := (mvs T).map (gM T w)
def VM (T : Nat → Int32) (c : Nat) : Prop := SV T (dec T c) ∧ enc T (dec T c) = c
theorem VM_enc {T : Nat → Int32} (hT : TW T) {s : St} (h : SV T s) : VM T (enc T s) ∧ enc T s < 129600 := ⟨⟨h.agr (h.dec hT).symm, (h.dec hT).enc'⟩, h.enc_lt hT⟩
theorem VM_lt {T : Nat → Int32} (hT : TW T) {c : Nat} (h : VM T c) : c < 129600 := by
  have := h.1.enc_lt hT
  rw [h.2] at this
  exact this
theorem mem_go {nb p : Nat} {v : Mv} (h : v ∈ gGo nb p) : ∃ b, b < nb ∧ v = (0, p, none, some b) := by
  unfold gGo at h
  simp [List.mem_flatMap, List.mem_range'] at h
  obtain ⟨b, h1, h2⟩ := h
  exact ⟨b, h1, h2⟩
theorem mem_bo {nb nq p : Nat} {v : Mv} (h : v ∈ gBo nb nq p) : ∃ q b, p < q ∧ q < nq ∧ b < nb ∧ v = (1, p, some q, some b) := by
  unfold gBo gBo1 at h
  simp only [List.mem_flatMap, List.mem_range', List.mem_singleton] at h
  obtain ⟨q, ⟨i, h1, h2⟩, b, ⟨j, h3, h4⟩, h5⟩ := h
  exact ⟨q, b, by omega, by omega, by omega, h5⟩
theorem mem_li {nl p : Nat} {v : Mv} (h : v ∈ gLi nl p) : ∃ l, l < nl ∧ v = (2, p, none, some l) := by
  unfold gLi at h
  simp [List.mem_flatMap, List.mem_range'] at h
  obtain ⟨b, h1, h2⟩ := h
  exact ⟨b, h1, h2⟩
theorem mvs_W {T : Nat → Int32} {v : Mv} (h : v ∈ mvs T) : MvW T v ∧ v.1 < 4 := by
  unfold mvs at h
  simp only [List.mem_append, List.mem_flatMap, List.mem_range'] at h
  rcases h with ((⟨p, ⟨i, h1, h2⟩, h3⟩ | ⟨p, ⟨i, h1, h2⟩, h3⟩) | ⟨p, ⟨i, h1, h2⟩, h3⟩) | ⟨p, ⟨i, h1, h2⟩, h3⟩
  · obtain ⟨b, hb, rfl⟩ := mem_go h3
    exact ⟨⟨by show p < _; omega, fun _ => ⟨fun q hq => (by cases hq), b, rfl, hb⟩, fun h => by cases h⟩, by show (0 : Nat) < 4; omega⟩
  · obtain ⟨q, b, hq1, hq2, hb, rfl⟩ := mem_bo h3
    exact ⟨⟨by show p < _; omega, fun _ => ⟨fun q' hq' => by cases hq'; exact ⟨hq2, by show q ≠ p; omega⟩, b, rfl, hb⟩, fun h => by cases h⟩, by show (1 : Nat) < 4; omega⟩
  · obtain ⟨b, hb, rfl⟩ := mem_li h3
    exact ⟨⟨by show p < _; omega, fun h => by exact absurd h (by show ¬ (2 : Nat) < 2; omega), fun _ => ⟨b, rfl, hb⟩⟩, by show (2 : Nat) < 4; omega⟩
  · simp [gDr] at h3
    subst h3
    exact ⟨⟨by show p < _; omega, fun h => by exact absurd h (by show ¬ (3 : Nat) < 2; omega), fun h => by cases h⟩, by show (3 : Nat) < 4; omega⟩
theorem Cl_M {T : Nat → Int32} (hT : TW T) (w : Ot) : Cl (VM T) 129600 (msM T w) := by
  intro f hf c c' hV hc
  unfold msM at hf
  obtain ⟨v, hv, rfl⟩ := List.mem_map.mp hf
  unfold gM at hc
  cases hr : sMv T w v (dec T c) with
  | none => rw [hr] at hc; cases hc
  | some r =>
    rw [hr] at hc
    cases hc
    exact VM_enc hT (hV.1.mv hT (mvs_W hv).1 hr)
section
variable {m : Nat} {σ : ZT}
theorem q_takesNow (h : MInv m σ) : f_X9_takesNow m σ = some (NL m σ (mix 4 (nowS (zAI σ (m + 1))).1 (zAI σ (m + 9)), mix 2 (nowS (zAI σ (m + 1))).2 (zAI σ (m + 10)))) := by
  have e1 : loopC (fun s : (Int32 × ZT) => f_X9_takesNow_L2 m s.1 s.2) (nI 0, σ) = some (sAIr σ (m + 9) (mix 4 (nowS (zAI σ (m + 1))).1 (zAI σ (m + 9)))) := by
    have := loop_go (body := fun s : (Int32 × ZT) => f_X9_takesNow_L2 m s.1 s.2) (fun k => (nI k, sAIr σ (m + 9) (mix k (nowS (zAI σ (m + 1))).1 (zAI σ (m + 9))))) 4 (sAIr σ (m + 9) (mix 4 (nowS (zAI σ (m + 1))).1 (zAI σ (m + 9)))) (fun k hk => ?_) ?_
    · have e0 : mix 0 (nowS (zAI σ (m + 1))).1 (zAI σ (m + 9)) = zAI σ (m + 9) := by funext i; unfold mix; simp
      simp only [e0, sAIr_self] at this
      exact this
    · have hm : up (mix k (nowS (zAI σ (m + 1))).1 (zAI σ (m + 9))) k (zAI σ (m + 1) (110 + k)) = mix (k + 1) (nowS (zAI σ (m + 1))).1 (zAI σ (m + 9)) := by
        funext i
        unfold up mix nowS
        by_cases e1 : i = k
        · subst e1; simp
        · by_cases e2 : i < k
          · simp [e1, e2, show i < k + 1 by omega]
          · simp [e1, e2, show ¬ i < k + 1 by omega]
      unfold f_X9_takesNow_L2
      simp (disch := first | exact h | omega | (simp only [Mi_sI, Mi_sL, Mi_sAI, Mi_sAL, Mi_sAIr, Mi_sALr]; exact h)) [mR900, mR901, mR905, mR906, mR907, mR908, mR909, mR921, mR924, mR925, mR929, mR930, mR931, mR932, mR934, mR935, mR936, mR940, mR949, mR950, mR951, ml_at, ml_names, ml_sort, ml_trayMany, ml_trays, ml_tape, ml_text, ml_opened, ml_now, ml_lies, ml_moveKind, ml_moveOne, ml_moveTwo, ml_moveThird, ml_far, ml_come, ml_good, ml_way, ml_rounds, ml_told0, ml_endAt, ms_at, ms_names, ms_sort, ms_trayMany, ms_trays, ms_tape, ms_text, ms_opened, ms_now, ms_lies, ms_moveKind, ms_moveOne, ms_moveTwo, ms_moveThird, ms_far, ms_come, ms_good, ms_way, ms_rounds, ms_told0, ms_endAt, mgI, mgL, mpI, mpL, mpZ, mvc, bnd2_s, bind_s, rz, lI, mI_eq, nI_add, pk_mul, nlt, nle, neq, nI_mI, mI_nI, nltm, mltn, nsub, zremN, zdivN, zAIr_ne, zAIr_at, sAI_r, sAIr_sAIr, hk, hm]
    · unfold f_X9_takesNow_L2
      simp (disch := first | exact h | omega | (simp only [Mi_sI, Mi_sL, Mi_sAI, Mi_sAL, Mi_sAIr, Mi_sALr]; exact h)) [mR900, mR901, mR905, mR906, mR907, mR908, mR909, mR921, mR924, mR925, mR929, mR930, mR931, mR932, mR934, mR935, mR936, mR940, mR949, mR950, mR951, ml_at, ml_names, ml_sort, ml_trayMany, ml_trays, ml_tape, ml_text, ml_opened, ml_now, ml_lies, ml_moveKind, ml_moveOne, ml_moveTwo, ml_moveThird, ml_far, ml_come, ml_good, ml_way, ml_rounds, ml_told0, ml_endAt, ms_at, ms_names, ms_sort, ms_trayMany, ms_trays, ms_tape, ms_text, ms_opened, ms_now, ms_lies, ms_moveKind, ms_moveOne, ms_moveTwo, ms_moveThird, ms_far, ms_come, ms_good, ms_way, ms_rounds, ms_told0, ms_endAt, mgI, mgL, mpI, mpL, mpZ, mvc, bnd2_s, bind_s, rz, lI, mI_eq, nI_add, pk_mul, nlt, nle, neq, nI_mI, mI_nI, nltm, mltn, nsub, zremN, zdivN]
  have e2 : ∀ τ : ZT, MInv m τ → zAI τ (m + 1) = zAI σ (m + 1) → loopC (fun s : (Int32 × ZT) => f_X9_takesNow_L30 m s.1 s.2) (nI 0, τ) = some (sAIr τ (m + 10) (mix 2 (nowS (zAI σ (m + 1))).2 (zAI τ (m + 10)))) := by
    intro τ h hτ
    have := loop_go (body := fun s : (Int32 × ZT) => f_X9_takesNow_L30 m s.1 s.2) (fun k => (nI k, sAIr τ (m + 10) (mix k (nowS (zAI σ (m + 1))).2 (zAI τ (m + 10))))) 2 (sAIr τ (m + 10) (mix 2 (nowS (zAI σ (m + 1))).2 (zAI τ (m + 10)))) (fun k hk => ?_) ?_
    · have e0 : mix 0 (nowS (zAI σ (m + 1))).2 (zAI τ (m + 10)) = zAI τ (m + 10) := by funext i; unfold mix; simp
      simp only [e0, sAIr_self] at this
      exact this
    · have hm : up (mix k (nowS (zAI σ (m + 1))).2 (zAI τ (m + 10))) k (zAI σ (m + 1) (114 + k)) = mix (k + 1) (nowS (zAI σ (m + 1))).2 (zAI τ (m + 10)) := by
        funext i
        unfold up mix nowS
        by_cases e1 : i = k
        · subst e1; simp
        · by_cases e2 : i < k
          · simp [e1, e2, show i < k + 1 by omega]
          · simp [e1, e2, show ¬ i < k + 1 by omega]
      unfold f_X9_takesNow_L30
      simp (disch := first | exact h | omega | (simp only [Mi_sI, Mi_sL, Mi_sAI, Mi_sAL, Mi_sAIr, Mi_sALr]; exact h)) [mR900, mR901, mR905, mR906, mR907, mR908, mR909, mR921, mR924, mR925, mR929, mR930, mR931, mR932, mR934, mR935, mR936, mR940, mR949, mR950, mR951, ml_at, ml_names, ml_sort, ml_trayMany, ml_trays, ml_tape, ml_text, ml_opened, ml_now, ml_lies, ml_moveKind, ml_moveOne, ml_moveTwo, ml_moveThird, ml_far, ml_come, ml_good, ml_way, ml_rounds, ml_told0, ml_endAt, ms_at, ms_names, ms_sort, ms_trayMany, ms_trays, ms_tape, ms_text, ms_opened, ms_now, ms_lies, ms_moveKind, ms_moveOne, ms_moveTwo, ms_moveThird, ms_far, ms_come, ms_good, ms_way, ms_rounds, ms_told0, ms_endAt, mgI, mgL, mpI, mpL, mpZ, mvc, bnd2_s, bind_s, rz, lI, mI_eq, nI_add, pk_mul, nlt, nle, neq, nI_mI, mI_nI, nltm, mltn, nsub, zremN, zdivN, hτ, zAIr_ne, zAIr_at, sAI_r, sAIr_sAIr, hk, hm]
    · unfold f_X9_takesNow_L30
      simp (disch := first | exact h | omega | (simp only [Mi_sI, Mi_sL, Mi_sAI, Mi_sAL, Mi_sAIr, Mi_sALr]; exact h)) [mR900, mR901, mR905, mR906, mR907, mR908, mR909, mR921, mR924, mR925, mR929, mR930, mR931, mR932, mR934, mR935, mR936, mR940, mR949, mR950, mR951, ml_at, ml_names, ml_sort, ml_trayMany, ml_trays, ml_tape, ml_text, ml_opened, ml_now, ml_lies, ml_moveKind, ml_moveOne, ml_moveTwo, ml_moveThird, ml_far, ml_come, ml_good, ml_way, ml_rounds, ml_told0, ml_endAt, ms_at, ms_names, ms_sort, ms_trayMany, ms_trays, ms_tape, ms_text, ms_opened, ms_now, ms_lies, ms_moveKind, ms_moveOne, ms_moveTwo, ms_moveThird, ms_far, ms_come, ms_good, ms_way, ms_rounds, ms_told0, ms_endAt, mgI, mgL, mpI, mpL, mpZ, mvc, bnd2_s, bind_s, rz, lI, mI_eq, nI_add, pk_mul, nlt, nle, neq, nI_mI, mI_nI, nltm, mltn, nsub, zremN, zdivN]
  have e3 := e2 (sAIr σ (m + 9) (mix 4 (nowS (zAI σ (m + 1))).1 (zAI σ (m + 9)))) h (zAIr_ne _ (by omega))
  unfold f_X9_takesNow
  simp only [lI, e1, bind_s]
  rw [e3, zAIr_ne _ (by omega), bind_s, sAIr_comm (by omega)]
  rfl
theorem mix_agr {T : Nat → Int32} (hT : TW T) (s s' : St) : Agr T (mix 4 s.1 s'.1, mix 2 s.2 s'.2) s := by
  have h1 := hT.2.2.2.1
  have h2 := hT.2.2.2.2.1
  refine ⟨fun p hp => ?_, fun l hl => ?_⟩
  · show mix 4 s.1 s'.1 p = s.1 p
    unfold mix
    rw [if_pos (by omega)]
  · show mix 2 s.2 s'.2 l = s.2 l
    unfold mix
    rw [if_pos (by omega)]
/-- the model's arrays hold s: how far, what is come to, how many, the start, the moves -/
def CR (m : Nat) (σ : ZT) (c0 : Nat) (s : Bf) (τ : ZT) : Prop := FR m 933 938 9 16 σ τ ∧ ML m τ (mvs (zAI σ (m + 1))) ∧ zI τ 938 m = nI c0 ∧ zI τ 937 m = nI s.2.length ∧ (∀ c, c < 129600 → zAI τ (m + 15) c = oI (s.1 c)) ∧ ∀ i c, s.2[i]? = some c → zAI τ (m + 16) i = nI c
theorem ML.of {σ' : ZT} {L : List Mv} (h : ML m σ L) (h1 : zI σ' 933 m = zI σ 933 m) (h2 : ∀ k, 11 ≤ k → k ≤ 14 → zAI σ' (m + k) = zAI σ (m + k)) : ML m σ' L := by
  obtain ⟨g1, g2⟩ := h
  refine ⟨by rw [h1]; exact g1, fun k v hk => ?_⟩
  unfold MvA
  rw [h2 11 (by omega) (by omega), h2 12 (by omega) (by omega), h2 13 (by omega) (by omega), h2 14 (by omega) (by omega)]
  exact g2 k v hk
theorem CR.NL {c0 : Nat} {s : Bf} {τ : ZT} (h : CR m σ c0 s τ) (x : St) : CR m σ c0 s (NL m τ x) := by
  obtain ⟨h1, h2, h3, h4, h5, h6⟩ := h
  refine ⟨h1.trans (FR.NL (by omega) (by omega) x), h2.of rfl (fun k a b => NL_ne _ (by omega) (by omega)), h3, h4, fun c hc => ?_, fun i c hi => ?_⟩
  · rw [NL_ne _ (by omega) (by omega)]; exact h5 c hc
  · rw [NL_ne _ (by omega) (by omega)]; exact h6 i c hi
theorem q_starts (h : MInv m σ) (hT : TW (zAI σ (m + 1))) (hS : SV (zAI σ (m + 1)) (nowS (zAI σ (m + 1)))) : ∃ τ, f_X9_starts m σ = some τ ∧ CR m σ (enc (zAI σ (m + 1)) (nowS (zAI σ (m + 1)))) (b0 (enc (zAI σ (m + 1)) (nowS (zAI σ (m + 1))))) τ := by
  obtain ⟨τ1, a1, F1, M1, -⟩ := q_laysMoves h hT
  have h1 : MInv m τ1 := F1.inv h
  have e1 : zAI τ1 (m + 1) = zAI σ (m + 1) := F1.ai (by omega)
  have a2 := q_takesNow h1
  rw [e1] at a2
  have hag := mix_agr hT (nowS (zAI σ (m + 1))) (zAI τ1 (m + 9), zAI τ1 (m + 10))
  generalize hx : ((mix 4 (nowS (zAI σ (m + 1))).1 (zAI τ1 (m + 9)), mix 2 (nowS (zAI σ (m + 1))).2 (zAI τ1 (m + 10))) : St) = x at a2 hag
  have hx2 : SV (zAI σ (m + 1)) x := hS.agr hag.symm
  have e2 : zAI (NL m τ1 x) (m + 1) = zAI σ (m + 1) := by rw [NL_ne _ (by omega) (by omega), e1]
  have a3 := q_code (σ := NL m τ1 x) h1 (by rw [e2]; exact hT) (by rw [e2, NL_at]; exact fun p hp => (hx2.1 p hp).1) (by rw [e2, NL_lies]; exact fun p hp => (hx2.2.1 p hp).1)
  rw [e2, NL_at, NL_lies] at a3
  have ec : enc (zAI σ (m + 1)) (x.1, x.2) = enc (zAI σ (m + 1)) (nowS (zAI σ (m + 1))) := hag.enc'
  rw [ec] at a3
  have hlt := hS.enc_lt hT
  generalize enc (zAI σ (m + 1)) (nowS (zAI σ (m + 1))) = c0 at *
  have a4 : ∀ τ : ZT, MInv m τ → loopC (fun s : (Int32 × ZT) => f_X9_starts_L18 m s.1 s.2) (nI 0, τ) = some (sAIr τ (m + 15) (mix 129600 (fun _ => mI) (zAI τ (m + 15)))) := by
    intro τ h
    have := loop_go (body := fun s : (Int32 × ZT) => f_X9_starts_L18 m s.1 s.2) (fun k => (nI k, sAIr τ (m + 15) (mix k (fun _ => mI) (zAI τ (m + 15))))) 129600 (sAIr τ (m + 15) (mix 129600 (fun _ => mI) (zAI τ (m + 15)))) (fun k hk => ?_) ?_
    · have e0 : mix 0 (fun _ => mI) (zAI τ (m + 15)) = zAI τ (m + 15) := by funext i; unfold mix; simp
      simp only [e0, sAIr_self] at this
      exact this
    · have hm : up (mix k (fun _ => mI) (zAI τ (m + 15))) k mI = mix (k + 1) (fun _ => mI) (zAI τ (m + 15)) := by
        funext i
        unfold up mix
        by_cases e1 : i = k
        · subst e1; simp
        · by_cases e2 : i < k
          · simp [e1, e2, show i < k + 1 by omega]
          · simp [e1, e2, show ¬ i < k + 1 by omega]
      unfold f_X9_starts_L18
      simp (disch := first | exact h | omega | (simp only [Mi_sI, Mi_sL, Mi_sAI, Mi_sAL, Mi_sAIr, Mi_sALr]; exact h)) [mR900, mR901, mR905, mR906, mR907, mR908, mR909, mR921, mR924, mR925, mR929, mR930, mR931, mR932, mR934, mR935, mR936, mR940, mR949, mR950, mR951, ml_at, ml_names, ml_sort, ml_trayMany, ml_trays, ml_tape, ml_text, ml_opened, ml_now, ml_lies, ml_moveKind, ml_moveOne, ml_moveTwo, ml_moveThird, ml_far, ml_come, ml_good, ml_way, ml_rounds, ml_told0, ml_endAt, ms_at, ms_names, ms_sort, ms_trayMany, ms_trays, ms_tape, ms_text, ms_opened, ms_now, ms_lies, ms_moveKind, ms_moveOne, ms_moveTwo, ms_moveThird, ms_far, ms_come, ms_good, ms_way, ms_rounds, ms_told0, ms_endAt, mgI, mgL, mpI, mpL, mpZ, mvc, bnd2_s, bind_s, rz, lI, mI_eq, nI_add, pk_mul, nlt, nle, neq, nI_mI, mI_nI, nltm, mltn, nsub, zremN, zdivN, zAIr_ne, zAIr_at, sAI_r, sAIr_sAIr, hk, hm]
    · unfold f_X9_starts_L18
      simp (disch := first | exact h | omega | (simp only [Mi_sI, Mi_sL, Mi_sAI, Mi_sAL, Mi_sAIr, Mi_sALr]; exact h)) [mR900, mR901, mR905, mR906, mR907, mR908, mR909, mR921, mR924, mR925, mR929, mR930, mR931, mR932, mR934, mR935, mR936, mR940, mR949, mR950, mR951, ml_at, ml_names, ml_sort, ml_trayMany, ml_trays, ml_tape, ml_text, ml_opened, ml_now, ml_lies, ml_moveKind, ml_moveOne, ml_moveTwo, ml_moveThird, ml_far, ml_come, ml_good, ml_way, ml_rounds, ml_told0, ml_endAt, ms_at, ms_names, ms_sort, ms_trayMany, ms_trays, ms_tape, ms_text, ms_opened, ms_now, ms_lies, ms_moveKind, ms_moveOne, ms_moveTwo, ms_moveThird, ms_far, ms_come, ms_good, ms_way, ms_rounds, ms_told0, ms_endAt, mgI, mgL, mpI, mpL, mpZ, mvc, bnd2_s, bind_s, rz, lI, mI_eq, nI_add, pk_mul, nlt, nle, neq, nI_mI, mI_nI, nltm, mltn, nsub, zremN, zdivN]
  have h2 : MInv m (NL m τ1 x) := h1
  have h3 : MInv m (sI (NL m τ1 x) 938 m (nI c0)) := h1
  have a5 := a4 _ h3
  rw [zAI_sI, NL_ne x (show m + 15 ≠ m + 9 by omega) (show m + 15 ≠ m + 10 by omega)] at a5
  have h4 : MInv m (sAIr (sI (NL m τ1 x) 938 m (nI c0)) (m + 15) (mix 129600 (fun _ => mI) (zAI τ1 (m + 15)))) := h1
  refine ⟨sI (sAI (sAI (sAIr (sI (NL m τ1 x) 938 m (nI c0)) (m + 15) (mix 129600 (fun _ => mI) (zAI τ1 (m + 15)))) (m + 15) c0 (nI 0)) (m + 16) 0 (nI c0)) 937 m (nI 1), ?_, ?_, ?_, ?_, ?_, ?_, ?_⟩
  · unfold f_X9_starts
    simp (disch := first | exact h | exact h1 | exact h2 | exact h3 | exact h4 | omega | (simp only [Mi_sI, Mi_sL, Mi_sAI, Mi_sAL, Mi_sAIr, Mi_sALr]; exact h2)) only [mvc, a1, a2, a3, bind_s, bnd2_s, lI, mI_eq, nI_add, pk_mul, nlt, nle, neq, nI_mI, mI_nI, nltm, mltn, nsub, zremN, zdivN, mpI, a5, mgI, mR934, mR935, ms_far, ms_come, zI_sAIr, zI_sAI, r_II, if_true, and_self]
  · refine (F1.mono (by omega) (by omega) (by omega) (by omega)).trans ((FR.NL (by omega) (by omega) x).trans ?_)
    exact ((((FR.sI (by decide) (by decide) _).trans (FR.sAIr (by decide) (by decide) _)).trans (FR.sAI (by decide) (by decide) _ _)).trans (FR.sAI (by decide) (by decide) _ _)).trans (FR.sI (by decide) (by decide) _)
  · refine M1.of ?_ (fun k k1 k2 => ?_)
    · simp [r_II, zI_sAI, zI_sAIr, NL_I]
    · rw [zAI_sI]
      simp only [sAI_r]
      rw [zAIr_ne _ (by omega), zAIr_ne _ (by omega), zAIr_ne _ (by omega), zAI_sI, NL_ne _ (by omega) (by omega)]
  · simp [r_II, zI_sAI, zI_sAIr]
  · simp [r_II, b0]
  · intro c hc
    rw [zAI_sI, r_AI, if_neg (by omega), r_AI]
    unfold b0
    by_cases e : c = c0
    · simp [e, oI]
    · simp only [e, and_false, if_false]
      rw [zAIr_at]
      unfold mix
      rw [if_pos hc]
      rfl
  · intro i c hi
    unfold b0 at hi
    have : i = 0 ∧ c = c0 := by
      cases i with
      | zero => simp at hi; exact ⟨rfl, hi.symm⟩
      | succ i => simp at hi
    obtain ⟨rfl, rfl⟩ := this
    simp [zAI_sI, r_AI]
end
