set_option maxRecDepth 100000
/-! ===== the operations on the abstract heap, as the methods' functions use them ===== -/
def gI (ci f a : Nat) (σ : ZT) : Option Int32 := if zK σ a = ci + 1 then some (zI σ f a) else none
def gL (ci f a : Nat) (σ : ZT) : Option Int64 := if zK σ a = ci + 1 then some (zL σ f a) else none
def gQ (ci f a : Nat) (σ : ZT) : Option (Option Nat) := if zK σ a = ci + 1 then some (zR σ f a) else none
def gR (ci f a : Nat) (σ : ZT) : Option Nat := if zK σ a = ci + 1 then zR σ f a else none
def pI (ci f a : Nat) (v : Int32) (σ : ZT) : Option ZT := if zK σ a = ci + 1 then some (sI σ f a v) else none
def pZ (ci f a : Nat) (v : Int32) (σ : ZT) : Option ZT := if zK σ a = ci + 1 ∧ (v = 0 ∨ v = 1) then some (sI σ f a v) else none
def pL (ci f a : Nat) (v : Int64) (σ : ZT) : Option ZT := if zK σ a = ci + 1 then some (sL σ f a v) else none
def pR (ci f a : Nat) (v : Option Nat) (σ : ZT) : Option ZT := if zK σ a = ci + 1 then some (sR σ f a v) else none
def ldI (j a : Nat) (i : Int32) (σ : ZT) : Option Int32 := if zK σ a = 21 + j ∧ (¬ i < 0 ∧ i.toNatClampNeg < zN σ a) then some (zAI σ a i.toNatClampNeg) else none
def ldL (a : Nat) (i : Int32) (σ : ZT) : Option Int64 := if zK σ a = 22 ∧ (¬ i < 0 ∧ i.toNatClampNeg < zN σ a) then some (zAL σ a i.toNatClampNeg) else none
def ldQ (j a : Nat) (i : Int32) (σ : ZT) : Option (Option Nat) := if zK σ a = 21 + j ∧ (¬ i < 0 ∧ i.toNatClampNeg < zN σ a) then some (zAR σ a i.toNatClampNeg) else none
def ldR (j a : Nat) (i : Int32) (σ : ZT) : Option Nat := if zK σ a = 21 + j ∧ (¬ i < 0 ∧ i.toNatClampNeg < zN σ a) then zAR σ a i.toNatClampNeg else none
def stI (a : Nat) (i v : Int32) (σ : ZT) : Option ZT := if zK σ a = 21 ∧ (¬ i < 0 ∧ i.toNatClampNeg < zN σ a) then some (sAI σ a i.toNatClampNeg v) else none
def stB (a : Nat) (i v : Int32) (σ : ZT) : Option ZT := if zK σ a = 23 ∧ (¬ i < 0 ∧ i.toNatClampNeg < zN σ a) then some (sAI σ a i.toNatClampNeg v.toInt8.toInt32) else none
def stS (a : Nat) (i v : Int32) (σ : ZT) : Option ZT := if zK σ a = 24 ∧ (¬ i < 0 ∧ i.toNatClampNeg < zN σ a) then some (sAI σ a i.toNatClampNeg v.toInt16.toInt32) else none
def stZ (a : Nat) (i v : Int32) (σ : ZT) : Option ZT := if zK σ a = 25 ∧ (¬ i < 0 ∧ i.toNatClampNeg < zN σ a) ∧ (v = 0 ∨ v = 1) then some (sAI σ a i.toNatClampNeg v) else none
def stL (a : Nat) (i : Int32) (v : Int64) (σ : ZT) : Option ZT := if zK σ a = 22 ∧ (¬ i < 0 ∧ i.toNatClampNeg < zN σ a) then some (sAL σ a i.toNatClampNeg v) else none
/-- the kinds of objects that an array of references of kind j may hold -/
def zfit (j k : Nat) : Bool := (j == 5 && k == 2) || (j == 6 && k == 12) || (j == 7 && k == 13) || (j == 8 && k == 14) || (j == 9 && k == 5) || (j == 10 && (k == 17 || k == 18 || k == 19 || k == 20))
def stR (j a : Nat) (i : Int32) (v : Nat) (σ : ZT) : Option ZT := if zK σ a = 21 + j ∧ (¬ i < 0 ∧ i.toNatClampNeg < zN σ a) ∧ zfit j (zK σ v) = true then some (sAR σ a i.toNatClampNeg (some v)) else none
def zlen (j a : Nat) (σ : ZT) : Option Int32 := if zK σ a = 21 + j then some (nI (zN σ a)) else none
def nwO (ci n : Nat) (σ : ZT) : Option (Nat × ZT) := if 1 ≤ zbc σ ∧ n ≤ zbs σ then some (zsz σ, znew σ (ci + 1) n 0) else none
def nwA (j : Nat) (n : Int32) (σ : ZT) : Option (Nat × ZT) := if ¬ n < 0 ∧ n.toNatClampNeg ≤ 1000000 ∧ 1 ≤ zbc σ ∧ n.toNatClampNeg ≤ zbs σ then some (zsz σ, znew σ (21 + j) n.toNatClampNeg n.toNatClampNeg) else none
/-! binds: of a pair; of a method's result that may be thrown -/
def bnd2 {α β : Type} (x : Option (α × ZT)) (k : α → ZT → Option β) : Option β := x.bind fun q => k q.1 q.2
theorem bnd2_some {α β : Type} {x : Option (α × ZT)} {k : α → ZT → Option β} {out : β} (h : bnd2 x k = some out) : ∃ v σ, x = some (v, σ) ∧ k v σ = some out := by
  cases x with
  | none => cases h
  | some q => exact ⟨q.1, q.2, rfl, h⟩
def bndE {α β : Type} (x : Option ((Nat × ZT) ⊕ α)) (t : Nat → ZT → Option β) (k : α → Option β) : Option β := match x with
  | none => none
  | some (.inl e) => t e.1 e.2
  | some (.inr v) => k v
/-! ===== a class's facts ===== -/
def ZKl (ci : Nat) (C : String) (T : u_T) (N : Nat) : Prop := ci < 20 ∧ zCl[ci]? = some (C, T, N) ∧ N ≤ 100 ∧ (∀ w ∈ u_ws C T N, w ∈ lw_all) ∧ (∀ k, k < N → parseFieldDescriptor (T k).2.2.1 = some (zTy ci k)) ∧ (∀ a, a < N → ∀ b, b < N → a ≠ b → (T a).2.1 ≠ (T b).2.1)
theorem zk0 : ZKl 0 RX0 TX0 28 := ⟨by decide, rfl, by decide, in_X0, tyX0_ok, nmX0⟩
theorem zk1 : ZKl 1 RX1 TX1 1 := ⟨by decide, rfl, by decide, in_X1, tyX1_ok, nmX1⟩
theorem zk2 : ZKl 2 RX2 TX2 8 := ⟨by decide, rfl, by decide, in_X2, tyX2_ok, nmX2⟩
theorem zk3 : ZKl 3 RX3 TX3 7 := ⟨by decide, rfl, by decide, in_X3, tyX3_ok, nmX3⟩
theorem zk4 : ZKl 4 RX4 TX4 2 := ⟨by decide, rfl, by decide, in_X4, tyX4_ok, nmX4⟩
theorem zk5 : ZKl 5 RX5 TX5 6 := ⟨by decide, rfl, by decide, in_X5, tyX5_ok, nmX5⟩
theorem zk6 : ZKl 6 RX6 TX6 9 := ⟨by decide, rfl, by decide, in_X6, tyX6_ok, nmX6⟩
theorem zk7 : ZKl 7 RX7 TX7 5 := ⟨by decide, rfl, by decide, in_X7, tyX7_ok, nmX7⟩
theorem zk8 : ZKl 8 RX8 TX8 10 := ⟨by decide, rfl, by decide, in_X8, tyX8_ok, nmX8⟩
theorem zk9 : ZKl 9 RX9 TX9 54 := ⟨by decide, rfl, by decide, in_X9, tyX9_ok, nmX9⟩
theorem zk10 : ZKl 10 RX10 TX10 7 := ⟨by decide, rfl, by decide, in_X10, tyX10_ok, nmX10⟩
theorem zk11 : ZKl 11 RX11 TX11 10 := ⟨by decide, rfl, by decide, in_X11, tyX11_ok, nmX11⟩
theorem zk12 : ZKl 12 RX12 TX12 6 := ⟨by decide, rfl, by decide, in_X12, tyX12_ok, nmX12⟩
theorem zk13 : ZKl 13 RX13 TX13 3 := ⟨by decide, rfl, by decide, in_X13, tyX13_ok, nmX13⟩
theorem zk16 : ZKl 16 RX16 TX16 3 := ⟨by decide, rfl, by decide, in_X16, tyX16_ok, nmX16⟩
theorem zk17 : ZKl 17 RX17 TX17 5 := ⟨by decide, rfl, by decide, in_X17, tyX17_ok, nmX17⟩
theorem zk18 : ZKl 18 RX18 TX18 4 := ⟨by decide, rfl, by decide, in_X18, tyX18_ok, nmX18⟩
theorem zk19 : ZKl 19 RX19 TZ0 0 := ⟨by decide, rfl, by decide, fun w h => by simp [u_ws] at h, fun k h => absurd h (Nat.not_lt_zero k), fun a h => absurd h (Nat.not_lt_zero a)⟩
theorem zfs_at {σ : ZT} {ci a : Nat} {C : String} {T : u_T} {N k : Nat} (hc : zCl[ci]? = some (C, T, N)) (hk : k < N) : (zfs σ ci a)[k]? = some (zfv (ztc (zTy ci k)) σ (zFn ci k) a) := by
  have hn : zNf ci = N := by simp [zNf, hc]
  simp [zfs, hn, hk]
theorem va_P.one {D : va_G} {cl : List vw_C} {q : Nat × va_E} {H : Heap} (h : va_at D cl q H) : va_P D cl [q] H := by
  intro k x hx
  cases k with
  | zero => cases hx; exact h
  | succ k => simp at hx
/-- a field of the type t (0 int, 1 long, 2 reference), number f, of class ci, as the class own reads it by its pool's entry idx -/
def ZF (t : Nat) (own : String) (idx ci f : Nat) : Prop := ∃ (C : String) (T : u_T) (N k : Nat) (host : String), ZKl ci C T N ∧ k < N ∧ ztc (zTy ci k) = t ∧ zFn ci k = f ∧ (Cond.fieldLink own idx (T k).1 (T k).2.1 (T k).2.2.1 ∈ lw_all ∨ Cond.fieldLinkNest own idx (T k).1 (T k).2.1 (T k).2.2.1 host ∈ zNw)
/-- the same for a store: of the type ty; a final field in a constructor -/
def ZPu (own nm : String) (idx ci f : Nat) (ty : FieldType) : Prop := ∃ (C : String) (T : u_T) (N k : Nat) (host : String), ZKl ci C T N ∧ k < N ∧ zTy ci k = ty ∧ zFn ci k = f ∧ (((T k).2.2.2 = false ∧ (Cond.fieldLink own idx (T k).1 (T k).2.1 (T k).2.2.1 ∈ lw_all ∨ Cond.fieldLinkNest own idx (T k).1 (T k).2.1 (T k).2.2.1 host ∈ zNw)) ∨ ((T k).2.2.2 = true ∧ nm = "<init>" ∧ (T k).1 = own ∧ Cond.fieldLink own idx (T k).1 (T k).2.1 (T k).2.2.1 ∈ lw_all))
section
variable {l : Launch} {G : ZG} {own nm : String} {cc : ByteArray} {nL : Nat} {ret : Option FieldType} {tb : List (Nat × Nat × Nat × Nat)} {X : ZX} {d : Nat} {Q : State → Prop} {σ : ZT} {pc q : Nat} {lv : List (Nat × Value)} {st : List Value} {β : Type} {out : β}
theorem ZC.ts (C : ZC G own nm cc nL ret tb X d) : ∀ w ∈ lw_all, w.before (xa X) (xs X) = true := fun w h => C.w h
theorem zg_get (C : ZC G own nm cc nL ret tb X d) {t idx ci f a : Nat} (F : ZF t own idx ci f) (hK : zK σ a = ci + 1) (hd : decode cc pc = .ok (.getfield idx, 3)) (hq : pc + 3 = q) (kk : ZW l G nL X Q σ q lv (zfv t σ f a :: st)) : ZW l G nL X Q σ pc lv (.ref a :: st) := by
  subst hq
  obtain ⟨Cn, T, N, k, host, ⟨hc20, hcl, hN, hin, hty, hnm⟩, hk, rfl, rfl, hlink⟩ := F
  intro H locs ls hP hL h1 h2 hl
  have k1 := kk H locs ls hP hL h1 h2 hl
  have hv : (zfs σ ci a)[k]? = some (zfv (ztc (zTy ci k)) σ (zFn ci k) a) := zfs_at hcl hk
  have hPP : va_P (gD G) zCl [(a, .inr (ci, zfs σ ci a))] H := va_P.one (hP.obj hc20 hK)
  rcases hlink with hlink | hlink
  · exact va_get C.x C.b C.ts hin C.ow C.K.2.1 hPP 0 rfl hcl k hk (C.w hlink) (fun _ h => h) hv hd k1
  · exact va_getN C.x C.b C.ts hin C.ow C.K.2.1 hPP 0 rfl hcl k hk (va_Nw.use rfl (C.nw hlink)) (fun _ h => h) hv hd k1
theorem z_getI {kf : Int32 → Option β} (C : ZC G own nm cc nL ret tb X d) {idx ci f a : Nat} (F : ZF 0 own idx ci f) (hd : decode cc pc = .ok (.getfield idx, 3)) (hf : (gI ci f a σ).bind kf = some out) (hq : pc + 3 = q) (kk : ∀ v : Int32, kf v = some out → ZW l G nL X Q σ q lv (.int v :: st)) : ZW l G nL X Q σ pc lv (.ref a :: st) := by
  unfold gI at hf
  by_cases hK : zK σ a = ci + 1
  · rw [if_pos hK] at hf
    exact zg_get C F hK hd hq (kk _ hf)
  · rw [if_neg hK] at hf; cases hf
theorem z_getL {kf : Int64 → Option β} (C : ZC G own nm cc nL ret tb X d) {idx ci f a : Nat} (F : ZF 1 own idx ci f) (hd : decode cc pc = .ok (.getfield idx, 3)) (hf : (gL ci f a σ).bind kf = some out) (hq : pc + 3 = q) (kk : ∀ v : Int64, kf v = some out → ZW l G nL X Q σ q lv (.long v :: st)) : ZW l G nL X Q σ pc lv (.ref a :: st) := by
  unfold gL at hf
  by_cases hK : zK σ a = ci + 1
  · rw [if_pos hK] at hf
    exact zg_get C F hK hd hq (kk _ hf)
  · rw [if_neg hK] at hf; cases hf
theorem z_getQ {kf : Option Nat → Option β} (C : ZC G own nm cc nL ret tb X d) {idx ci f a : Nat} (F : ZF 2 own idx ci f) (hd : decode cc pc = .ok (.getfield idx, 3)) (hf : (gQ ci f a σ).bind kf = some out) (hq : pc + 3 = q) (kk : ∀ v : Option Nat, kf v = some out → ZW l G nL X Q σ q lv (va_rf v :: st)) : ZW l G nL X Q σ pc lv (.ref a :: st) := by
  unfold gQ at hf
  by_cases hK : zK σ a = ci + 1
  · rw [if_pos hK] at hf
    exact zg_get C F hK hd hq (kk _ hf)
  · rw [if_neg hK] at hf; cases hf
theorem z_getR {kf : Nat → Option β} (C : ZC G own nm cc nL ret tb X d) {idx ci f a : Nat} (F : ZF 2 own idx ci f) (hd : decode cc pc = .ok (.getfield idx, 3)) (hf : (gR ci f a σ).bind kf = some out) (hq : pc + 3 = q) (kk : ∀ v : Nat, kf v = some out → ZW l G nL X Q σ q lv (.ref v :: st)) : ZW l G nL X Q σ pc lv (.ref a :: st) := by
  unfold gR at hf
  by_cases hK : zK σ a = ci + 1
  · rw [if_pos hK] at hf
    refine zg_get C F hK hd hq ?_
    cases hr : zR σ f a with
    | none => rw [hr] at hf; cases hf
    | some v =>
      rw [hr] at hf
      have e : zfv 2 σ f a = .ref v := by simp [zfv, hr, va_rf]
      rw [e]
      exact kk v hf
  · rw [if_neg hK] at hf; cases hf
/-- what a store of v into the field f of the cell a does -/
def ZSt (G : ZG) (σ σ' : ZT) (f a t : Nat) (v : Value) : Prop := zK σ' = zK σ ∧ zsz σ' = zsz σ ∧ zbc σ' = zbc σ ∧ zbs σ' = zbs σ ∧ (∀ b : Nat, b ≠ a → zcell (gA G) σ' b = zcell (gA G) σ b) ∧ zfv t σ' f a = v ∧ ∀ t' g : Nat, g ≠ f → zfv t' σ' g a = zfv t' σ g a
theorem zg_put (C : ZC G own nm cc nL ret tb X d) {idx ci f a : Nat} {ty : FieldType} {v : Value} {σ' : ZT} (F : ZPu own nm idx ci f ty) (hK : zK σ a = ci + 1) (hn : narrow ty v = v) (hfit : fits ty v = true) (hσ : ZSt G σ σ' f a (ztc ty) v) (hd : decode cc pc = .ok (.putfield idx, 3)) (hq : pc + 3 = q) (kk : ZW l G nL X Q σ' q lv st) : ZW l G nL X Q σ pc lv (v :: .ref a :: st) := by
  subst hq
  obtain ⟨Cn, T, N, k, host, ⟨hc20, hcl, hN, hin, hty, hnm⟩, hk, rfl, rfl, hw⟩ := F
  obtain ⟨s1, s2, s3, s4, s5, s6, s7⟩ := hσ
  intro H locs ls hP hL h1 h2 hl
  have hts := C.ts
  have hKK := C.K.2.1
  have hap := va_apart (own := own) hts hin (zTy ci) hty hnm hKK hcl
  obtain ⟨r, hr1, cell, q1, q2, q3, q4⟩ := hP.obj hc20 hK
  have hr : r = (Cn, T, N) := Option.some.inj (hr1.symm.trans hcl)
  subst hr
  obtain ⟨hS, hfc, kC, hkC, hkind⟩ := hKK.1 ci _ hcl
  obtain ⟨cf, kf, fi, fd, hi, hsl⟩ := hS k hk
  have hst := (u_facts hfc hkC (u_lays hts hin hk) hi).1
  have hge := hP.ge (a := a) (by omega)
  have dn : ∀ H' : Heap, H'[a]? = some (cell.setSlot ((gD G).2 ci k) v) → H'.size = H.size → (∀ q : Nat, q ≠ a → H'[q]? = H[q]?) → HP G σ' H' := by
    intro H' e1 e2 e3
    refine hP.set (by omega) s1 s2 s5 ?_ e2 e3
    unfold zcell
    rw [s1, hK, if_pos (by omega)]
    refine ⟨_, hcl, t_OB.to (V := updV (vp_V (zfs σ ci a)) k v) ⟨_, e1, q2, q3, t_set q4 hap hk v⟩ (fun j hj => ?_)⟩
    have hj : j < N := hj
    have e := zfs_at (σ := σ') (a := a) hcl hj
    have e0 := zfs_at (σ := σ) (a := a) hcl hj
    show updV (vp_V (zfs σ ci a)) k v j = (zfs σ' ci a).getD j .null
    rw [List.getD_eq_getElem?_getD, e]
    unfold updV vp_V
    rw [List.getD_eq_getElem?_getD, e0]
    by_cases hj2 : j = k
    · subst hj2
      rw [if_pos rfl]
      exact s6.symm
    · rw [if_neg hj2]
      exact (s7 _ _ (fun z => hj2 (zFn_inj z (by omega) (by omega)))).symm
  have fin : ∀ H' : Heap, H'[a]? = some (cell.setSlot fd.slot v) → H'.size = H.size → (∀ q : Nat, q ≠ a → H'[q]? = H[q]?) → W (xp X) l (xe X) (xR X) (xs X) (xm X) (xa X) (xb X) (xmt X) (xc X) H' (locs ++ [⟨a, fd.slot⟩]) (xbc X - zbc σ) (xbs X - zbs σ) Q (F0 (xm X) (pc + 3) ls st) := by
    intro H' e1 e2 e3
    rw [hsl] at e1
    have k1 := kk H' (locs ++ [⟨a, fd.slot⟩]) ls (dn H' e1 e2 e3) (t_lc hL hge) (by omega) (by omega) hl
    rw [s3, s4] at k1
    exact k1
  rcases hw with ⟨hfin, hw⟩ | ⟨hfin, hi2, hdecl, hw⟩
  · have hlay := hts _ (hin _ (u_in_lay hk))
    unfold u_lay at hlay
    rw [if_neg (by rw [hfin]; decide)] at hlay
    have h6 := u_store hfc hkC hkind hlay hi (hty k hk) hn hfit
    rcases hw with hw | hw
    · exact W.putK C.x C.b (f := fd) ⟨C.ow, C.w hw, ⟨_, _, _, hi⟩, hst⟩ (by rw [q2]; exact h6) q1 q3 (by rw [hsl]; exact k2_hasslot (q4 k hk)) rfl rfl hd fin
    · exact va_WputK C.x C.b (f := fd) C.ow (va_Nw.use rfl (C.nw hw)) hi hst (by rw [q2]; exact h6) q1 q3 (by rw [hsl]; exact k2_hasslot (q4 k hk)) rfl rfl hd fin
  · have hlay := hts _ (hin _ (u_in_lay hk))
    unfold u_lay at hlay
    rw [if_pos hfin] at hlay
    have hcf : (xm X).cls = cf := by
      obtain ⟨_, _, c', _, _, _, -, -, hf', -, -, -, hown2, -⟩ := Cond.laysFinal_spec hlay
      have e1 : c' = cf := by have := hi.symm.trans hf'; simp at this; exact this.1.symm
      rw [hdecl] at hown2
      rw [← e1]; exact Option.some.inj (C.ow.symm.trans hown2)
    have h6 := u_fits hfc hkC hkind (Or.inr hlay) hi (hty k hk) hn hfit
    exact W.putFinK C.x C.b C.ow (C.w hw) hi hst hcf (C.nam.trans hi2) (by rw [q2]; exact h6) q1 q3 (by rw [hsl]; exact k2_hasslot (q4 k hk)) rfl rfl hd fin
theorem zcell_ne {dA : Nat → ClassId} {σ σ' : ZT} {b : Nat} (hK : zK σ' b = zK σ b) (hI : ∀ f, zI σ' f b = zI σ f b) (hL : ∀ f, zL σ' f b = zL σ f b) (hR : ∀ f, zR σ' f b = zR σ f b) (h1 : zAI σ' b = zAI σ b) (h2 : zAL σ' b = zAL σ b) (h3 : zAR σ' b = zAR σ b) (h4 : zN σ' b = zN σ b) : zcell dA σ' b = zcell dA σ b := by
  unfold zcell zfs zfv zarr
  simp only [hK, hI, hL, hR, h1, h2, h3, h4]
theorem z2_ne {α : Type} {m : Nat → Nat → α} {f a g b : Nat} {v : α} (h : b ≠ a) : z2 m f a v g b = m g b := if_neg (fun z => h z.2)
theorem z2_nf {α : Type} {m : Nat → Nat → α} {f a g b : Nat} {v : α} (h : g ≠ f) : z2 m f a v g b = m g b := if_neg (fun z => h z.1)
theorem z2_at {α : Type} {m : Nat → Nat → α} {f a : Nat} {v : α} : z2 m f a v f a = v := if_pos ⟨rfl, rfl⟩
theorem sI_st {f a : Nat} {v : Int32} : ZSt G σ (sI σ f a v) f a 0 (.int v) := by
  refine ⟨rfl, rfl, rfl, rfl, fun b hb => zcell_ne rfl (fun g => z2_ne hb) (fun _ => rfl) (fun _ => rfl) rfl rfl rfl rfl, ?_, fun t g hg => ?_⟩
  · show Value.int (z2 (zI σ) f a v f a) = _
    rw [z2_at]
  · have e : zI (sI σ f a v) g a = zI σ g a := z2_nf hg
    have e2 : zL (sI σ f a v) g a = zL σ g a := rfl
    have e3 : zR (sI σ f a v) g a = zR σ g a := rfl
    unfold zfv
    rw [e, e2, e3]
theorem sL_st {f a : Nat} {v : Int64} : ZSt G σ (sL σ f a v) f a 1 (.long v) := by
  refine ⟨rfl, rfl, rfl, rfl, fun b hb => zcell_ne rfl (fun _ => rfl) (fun g => z2_ne hb) (fun _ => rfl) rfl rfl rfl rfl, ?_, fun t g hg => ?_⟩
  · show Value.long (z2 (zL σ) f a v f a) = _
    rw [z2_at]
  · have e : zI (sL σ f a v) g a = zI σ g a := rfl
    have e2 : zL (sL σ f a v) g a = zL σ g a := z2_nf hg
    have e3 : zR (sL σ f a v) g a = zR σ g a := rfl
    unfold zfv
    rw [e, e2, e3]
theorem sR_st {f a : Nat} {v : Option Nat} : ZSt G σ (sR σ f a v) f a 2 (va_rf v) := by
  refine ⟨rfl, rfl, rfl, rfl, fun b hb => zcell_ne rfl (fun _ => rfl) (fun _ => rfl) (fun g => z2_ne hb) rfl rfl rfl rfl, ?_, fun t g hg => ?_⟩
  · show va_rf (z2 (zR σ) f a v f a) = _
    rw [z2_at]
  · have e : zI (sR σ f a v) g a = zI σ g a := rfl
    have e2 : zL (sR σ f a v) g a = zL σ g a := rfl
    have e3 : zR (sR σ f a v) g a = zR σ g a := z2_nf hg
    unfold zfv
    rw [e, e2, e3]
theorem z_putI {kf : ZT → Option β} (C : ZC G own nm cc nL ret tb X d) {idx ci f a : Nat} {v : Int32} (F : ZPu own nm idx ci f .int) (hd : decode cc pc = .ok (.putfield idx, 3)) (hf : (pI ci f a v σ).bind kf = some out) (hq : pc + 3 = q) (kk : ∀ σ' : ZT, kf σ' = some out → ZW l G nL X Q σ' q lv st) : ZW l G nL X Q σ pc lv (.int v :: .ref a :: st) := by
  unfold pI at hf
  by_cases hK : zK σ a = ci + 1
  · rw [if_pos hK] at hf
    exact zg_put C F hK rfl rfl sI_st hd hq (kk _ hf)
  · rw [if_neg hK] at hf; cases hf
theorem z_putZ {kf : ZT → Option β} (C : ZC G own nm cc nL ret tb X d) {idx ci f a : Nat} {v : Int32} (F : ZPu own nm idx ci f .boolean) (hd : decode cc pc = .ok (.putfield idx, 3)) (hf : (pZ ci f a v σ).bind kf = some out) (hq : pc + 3 = q) (kk : ∀ σ' : ZT, kf σ' = some out → ZW l G nL X Q σ' q lv st) : ZW l G nL X Q σ pc lv (.int v :: .ref a :: st) := by
  unfold pZ at hf
  by_cases hK : zK σ a = ci + 1 ∧ (v = 0 ∨ v = 1)
  · rw [if_pos hK] at hf
    exact zg_put C F hK.1 (by rcases hK.2 with h | h <;> subst h <;> rfl) (by rcases hK.2 with h | h <;> subst h <;> rfl) sI_st hd hq (kk _ hf)
  · rw [if_neg hK] at hf; cases hf
theorem z_putL {kf : ZT → Option β} (C : ZC G own nm cc nL ret tb X d) {idx ci f a : Nat} {v : Int64} (F : ZPu own nm idx ci f .long) (hd : decode cc pc = .ok (.putfield idx, 3)) (hf : (pL ci f a v σ).bind kf = some out) (hq : pc + 3 = q) (kk : ∀ σ' : ZT, kf σ' = some out → ZW l G nL X Q σ' q lv st) : ZW l G nL X Q σ pc lv (.long v :: .ref a :: st) := by
  unfold pL at hf
  by_cases hK : zK σ a = ci + 1
  · rw [if_pos hK] at hf
    exact zg_put C F hK rfl rfl sL_st hd hq (kk _ hf)
  · rw [if_neg hK] at hf; cases hf
theorem zref_ok {ty : FieldType} (h : ztc ty = 2) (r : Option Nat) : narrow ty (va_rf r) = va_rf r ∧ fits ty (va_rf r) = true := by
  cases ty <;> first | (exact absurd h (by decide)) | (cases r <;> exact ⟨rfl, rfl⟩)
theorem z_putQ {kf : ZT → Option β} (C : ZC G own nm cc nL ret tb X d) {idx ci f a : Nat} {ty : FieldType} {v : Option Nat} (F : ZPu own nm idx ci f ty) (ht : ztc ty = 2) (hd : decode cc pc = .ok (.putfield idx, 3)) (hf : (pR ci f a v σ).bind kf = some out) (hq : pc + 3 = q) (kk : ∀ σ' : ZT, kf σ' = some out → ZW l G nL X Q σ' q lv st) : ZW l G nL X Q σ pc lv (va_rf v :: .ref a :: st) := by
  unfold pR at hf
  by_cases hK : zK σ a = ci + 1
  · rw [if_pos hK] at hf
    exact zg_put C F hK (zref_ok ht v).1 (zref_ok ht v).2 (by rw [ht]; exact sR_st) hd hq (kk _ hf)
  · rw [if_neg hK] at hf; cases hf
theorem z_putR {kf : ZT → Option β} (C : ZC G own nm cc nL ret tb X d) {idx ci f a : Nat} {ty : FieldType} {v : Nat} (F : ZPu own nm idx ci f ty) (ht : ztc ty = 2) (hd : decode cc pc = .ok (.putfield idx, 3)) (hf : (pR ci f a (some v) σ).bind kf = some out) (hq : pc + 3 = q) (kk : ∀ σ' : ZT, kf σ' = some out → ZW l G nL X Q σ' q lv st) : ZW l G nL X Q σ pc lv (.ref v :: .ref a :: st) := z_putQ C F ht hd hf hq kk
end
