set_option maxRecDepth 100000
/-! ===== 1. THE ABSTRACT HEAP: kinds, fields by (field number, address), arrays by address, the next address, what may still be made ===== -/
abbrev ZT : Type := (Nat → Nat) × (Nat → Nat → Int32) × (Nat → Nat → Int64) × (Nat → Nat → Option Nat) × (Nat → Nat → Int32) × (Nat → Nat → Int64) × (Nat → Nat → Option Nat) × (Nat → Nat) × Nat × Nat × Nat
/-- the kind of the cell at an address: 0 none; 1 .. 20 an object of class k - 1; 21 .. 31 an array -/
def zK (σ : ZT) : Nat → Nat := σ.1
def zI (σ : ZT) : Nat → Nat → Int32 := σ.2.1
def zL (σ : ZT) : Nat → Nat → Int64 := σ.2.2.1
def zR (σ : ZT) : Nat → Nat → Option Nat := σ.2.2.2.1
def zAI (σ : ZT) : Nat → Nat → Int32 := σ.2.2.2.2.1
def zAL (σ : ZT) : Nat → Nat → Int64 := σ.2.2.2.2.2.1
def zAR (σ : ZT) : Nat → Nat → Option Nat := σ.2.2.2.2.2.2.1
def zN (σ : ZT) : Nat → Nat := σ.2.2.2.2.2.2.2.1
def zsz (σ : ZT) : Nat := σ.2.2.2.2.2.2.2.2.1
def zbc (σ : ZT) : Nat := σ.2.2.2.2.2.2.2.2.2.1
def zbs (σ : ZT) : Nat := σ.2.2.2.2.2.2.2.2.2.2
def z2 {α : Type} (m : Nat → Nat → α) (f a : Nat) (v : α) : Nat → Nat → α := fun g b => if g = f ∧ b = a then v else m g b
def zrow {α : Type} (m : Nat → Nat → α) (a : Nat) (r : Nat → α) : Nat → Nat → α := fun b => if b = a then r else m b
def zcol {α : Type} (m : Nat → Nat → α) (a : Nat) (v : α) : Nat → Nat → α := fun g b => if b = a then v else m g b
def z1 {α : Type} (m : Nat → α) (a : Nat) (v : α) : Nat → α := fun b => if b = a then v else m b
def sI (σ : ZT) (f a : Nat) (v : Int32) : ZT := (zK σ, z2 (zI σ) f a v, zL σ, zR σ, zAI σ, zAL σ, zAR σ, zN σ, zsz σ, zbc σ, zbs σ)
def sL (σ : ZT) (f a : Nat) (v : Int64) : ZT := (zK σ, zI σ, z2 (zL σ) f a v, zR σ, zAI σ, zAL σ, zAR σ, zN σ, zsz σ, zbc σ, zbs σ)
def sR (σ : ZT) (f a : Nat) (v : Option Nat) : ZT := (zK σ, zI σ, zL σ, z2 (zR σ) f a v, zAI σ, zAL σ, zAR σ, zN σ, zsz σ, zbc σ, zbs σ)
def sAI (σ : ZT) (a i : Nat) (v : Int32) : ZT := (zK σ, zI σ, zL σ, zR σ, z2 (zAI σ) a i v, zAL σ, zAR σ, zN σ, zsz σ, zbc σ, zbs σ)
def sAL (σ : ZT) (a i : Nat) (v : Int64) : ZT := (zK σ, zI σ, zL σ, zR σ, zAI σ, z2 (zAL σ) a i v, zAR σ, zN σ, zsz σ, zbc σ, zbs σ)
def sAR (σ : ZT) (a i : Nat) (v : Option Nat) : ZT := (zK σ, zI σ, zL σ, zR σ, zAI σ, zAL σ, z2 (zAR σ) a i v, zN σ, zsz σ, zbc σ, zbs σ)
def sAIr (σ : ZT) (a : Nat) (r : Nat → Int32) : ZT := (zK σ, zI σ, zL σ, zR σ, zrow (zAI σ) a r, zAL σ, zAR σ, zN σ, zsz σ, zbc σ, zbs σ)
def sALr (σ : ZT) (a : Nat) (r : Nat → Int64) : ZT := (zK σ, zI σ, zL σ, zR σ, zAI σ, zrow (zAL σ) a r, zAR σ, zN σ, zsz σ, zbc σ, zbs σ)
def sARr (σ : ZT) (a : Nat) (r : Nat → Option Nat) : ZT := (zK σ, zI σ, zL σ, zR σ, zAI σ, zAL σ, zrow (zAR σ) a r, zN σ, zsz σ, zbc σ, zbs σ)
/-- a new cell of the kind k, of n slots, of the length len, at the next address -/
def znew (σ : ZT) (k n len : Nat) : ZT := (z1 (zK σ) (zsz σ) k, zcol (zI σ) (zsz σ) 0, zcol (zL σ) (zsz σ) 0, zcol (zR σ) (zsz σ) none, zrow (zAI σ) (zsz σ) (fun _ => 0), zrow (zAL σ) (zsz σ) (fun _ => 0), zrow (zAR σ) (zsz σ) (fun _ => none), z1 (zN σ) (zsz σ) len, zsz σ + 1, zbc σ - 1, zbs σ - n)
/-- cells that the machine itself makes, that nobody looks at -/
def zgap (σ : ZT) (k n : Nat) : ZT := (zK σ, zI σ, zL σ, zR σ, zAI σ, zAL σ, zAR σ, zN σ, zsz σ + k, zbc σ - k, zbs σ - n)
/-! ===== 2. the classes: their fields' numbers and types ===== -/
def TZ0 : u_T := fun _ => ("", "", "", false)
def zCl : List vw_C := [(RX0, TX0, 28), (RX1, TX1, 1), (RX2, TX2, 8), (RX3, TX3, 7), (RX4, TX4, 2), (RX5, TX5, 6), (RX6, TX6, 9), (RX7, TX7, 5), (RX8, TX8, 10), (RX9, TX9, 54), (RX10, TX10, 7), (RX11, TX11, 10), (RX12, TX12, 6), (RX13, TX13, 3), (RX19, TZ0, 0), (RX19, TZ0, 0), (RX16, TX16, 3), (RX17, TX17, 5), (RX18, TX18, 4), (RX19, TZ0, 0)]
def zTy (ci : Nat) : Nat → FieldType := match ci with
  | 0 => tyX0 | 1 => tyX1 | 2 => tyX2 | 3 => tyX3 | 4 => tyX4 | 5 => tyX5 | 6 => tyX6 | 7 => tyX7 | 8 => tyX8 | 9 => tyX9 | 10 => tyX10 | 11 => tyX11 | 12 => tyX12 | 13 => tyX13 | 16 => tyX16 | 17 => tyX17 | 18 => tyX18 | _ => fun _ => .int
def ztc (t : FieldType) : Nat := match t with
  | .long => 1
  | .object _ => 2
  | .array _ => 2
  | _ => 0
/-- a field's number: of an inherited field the declaring class's -/
def zFn (ci k : Nat) : Nat := if (ci = 16 ∨ ci = 17) ∧ k < 2 then 1500 + k else if (ci = 2 ∨ ci = 3) ∧ k < 6 then 9900 + k else 100 * ci + k
theorem zFn_inj {ci j k : Nat} (h : zFn ci j = zFn ci k) (hj : j < 100) (hk : k < 100) : j = k := by
  unfold zFn at h
  repeat' split at h
  all_goals omega
def zfv (t : Nat) (σ : ZT) (f a : Nat) : Value := if t = 0 then .int (zI σ f a) else if t = 1 then .long (zL σ f a) else va_rf (zR σ f a)
def zNf (ci : Nat) : Nat := ((zCl[ci]?).map (fun q => q.2.2)).getD 0
def zfs (σ : ZT) (ci a : Nat) : List Value := (List.range (zNf ci)).map fun k => zfv (ztc (zTy ci k)) σ (zFn ci k) a
def zarr (σ : ZT) (j a : Nat) : (Nat → Int32) ⊕ (Nat → Int64) ⊕ (Nat → UInt32) ⊕ (Nat → UInt64) ⊕ (Nat → Option Nat) := if j = 1 then .inr (.inl (zAL σ a)) else if j < 5 then .inl (zAI σ a) else .inr (.inr (.inr (.inr (zAR σ a))))
def zcell (dA : Nat → ClassId) (σ : ZT) (a : Nat) : va_E := if zK σ a < 21 then .inr (zK σ a - 1, zfs σ (zK σ a - 1) a) else .inl (dA (zK σ a - 21), (zN σ a, zarr σ (zK σ a - 21) a))
def zAty (j : Nat) : FieldType := match j with
  | 0 => .int | 1 => .long | 2 => .byte | 3 => .short | 4 => .boolean | 5 => .object RX1 | 6 => .object RX11 | 7 => .object RX12 | 8 => .object RX13 | 9 => .object RX4 | _ => .object RX14
def zTys (dA : Nat → ClassId) : List (ClassId × FieldType) := (List.range 11).map fun j => (dA j, zAty j)
/-! ===== 3. what is fixed through a run ===== -/
/-- the classes' numbers, the array classes, the first address that is ours, the heap at the law's entry, the addresses of String constants and of their bytes -/
abbrev ZG : Type := va_G × (Nat → ClassId) × Nat × Heap × (Nat → Nat) × (Nat → Nat)
abbrev gD (G : ZG) : va_G := G.1
abbrev gA (G : ZG) : Nat → ClassId := G.2.1
abbrev gb (G : ZG) : Nat := G.2.2.1
abbrev gH (G : ZG) : Heap := G.2.2.2.1
abbrev gS (G : ZG) : Nat → Nat := G.2.2.2.2.1
abbrev gV (G : ZG) : Nat → Nat := G.2.2.2.2.2
def isNw : Cond → Bool
  | .fieldLinkNest .. => true
  | .methodLinkNest .. => true
  | .castable .. => true
  | .declares .. => true
  | _ => false
def zNw : List Cond := lw_tbl.filter isNw
theorem zNw_in {w : Cond} (h : w ∈ lw_tbl) (g : isNw w = true) : w ∈ zNw := List.mem_filter.mpr ⟨h, g⟩
theorem zNw_warm {w : Cond} {s U : State} (hw : w ∈ zNw) (hW : s.WarmedH U.vm) (h : va_Nw w s) : va_Nw w U := by
  have g := (List.mem_filter.mp hw).2
  cases w <;> first | exact va_Nw.warmF hW h | exact va_Nw.warmM hW h | exact va_Nw.warmC hW h | exact va_Nw.warmD hW h | (simp [isNw] at g)
def zAo : List String := [RX1, RX11, RX12, RX13, RX4, RX14]
/-- classes whose objects another class's name doesn't take -/
def zNcs : List (String × String) := [(RX3, "java/lang/NegativeArraySizeException"), (RX3, "java/lang/ArrayIndexOutOfBoundsException"), (RX3, "java/lang/IndexOutOfBoundsException"), ("[B", "[S"), ("[B", "[I"), ("[S", "[B"), ("[S", "[I"), ("[I", "[B"), ("[I", "[S"), ("[J", "[B"), ("[J", "[S"), ("[J", "[I")]
/-- what holds of the tables at every method's entry -/
def KK (G : ZG) (s : State) : Prop := (∀ w ∈ lw_all, ∀ a, w.before a s = true) ∧ va_K (gD G) zCl (zTys (gA G)) s ∧ (∀ w ∈ zNw, va_Nw w s) ∧ ((∀ C ∈ zAo, va_AO C s) ∧ ∀ q ∈ zNcs, va_Nc q.1 q.2 s) ∧ zStr (gS G) (gV G) (fun q => gb G ≤ q) (gH G) s
theorem KK.moved {G : ZG} {s U : State} (hW : s.WarmedH U.vm) (h : KK G s) : KK G U := by
  obtain ⟨h1, h2, h3, h4, h5⟩ := h
  exact ⟨fun w hw a => word_at (args := #[]) hW (good_of_word (List.mem_filter.mp hw).2) (h1 w hw #[]), va_K.moved hW.alike h2, fun w hw => zNw_warm hw hW (h3 w hw), ⟨fun C hC => va_AO.moved hW.alike (h4.1 C hC), fun q hq => va_Nc.moved hW.alike (h4.2 q hq)⟩, zStr.moved hW h5⟩
/-- the heap holds σ, and below gb G it is what it was -/
def HP (G : ZG) (σ : ZT) (H : Heap) : Prop := H.size = zsz σ ∧ gb G ≤ zsz σ ∧ (∀ q : Nat, q < gb G → H[q]? = (gH G)[q]?) ∧ ∀ a : Nat, zK σ a ≠ 0 → gb G ≤ a ∧ va_at (gD G) zCl (a, zcell (gA G) σ a) H
theorem HP.lt {G : ZG} {σ : ZT} {H : Heap} (h : HP G σ H) {a : Nat} (ha : zK σ a ≠ 0) : a < zsz σ := by
  rw [← h.1]
  exact va_at.lt (h.2.2.2 a ha).2
theorem HP.ge {G : ZG} {σ : ZT} {H : Heap} (h : HP G σ H) {a : Nat} (ha : zK σ a ≠ 0) : gb G ≤ a := (h.2.2.2 a ha).1
theorem HP.obj {G : ZG} {σ : ZT} {H : Heap} (h : HP G σ H) {a ci : Nat} (hc : ci < 20) (ha : zK σ a = ci + 1) : va_at (gD G) zCl (a, .inr (ci, zfs σ ci a)) H := by
  have h1 := (h.2.2.2 a (by omega)).2
  unfold zcell at h1
  rw [if_pos (by omega), ha] at h1
  exact h1
theorem HP.arr {G : ZG} {σ : ZT} {H : Heap} (h : HP G σ H) {a j : Nat} (ha : zK σ a = 21 + j) : H[a]? = some (vp_cell (gA G j) (zN σ a, zarr σ j a)) := by
  have h1 := (h.2.2.2 a (by omega)).2
  unfold zcell at h1
  rw [if_neg (by omega), ha, Nat.add_sub_cancel_left] at h1
  exact h1
/-- one cell changes -/
theorem HP.set {G : ZG} {σ σ' : ZT} {H H1 : Heap} {a : Nat} (h : HP G σ H) (ha : zK σ a ≠ 0) (hK : zK σ' = zK σ) (hz : zsz σ' = zsz σ) (ho : ∀ b : Nat, b ≠ a → zcell (gA G) σ' b = zcell (gA G) σ b) (hat : va_at (gD G) zCl (a, zcell (gA G) σ' a) H1) (z : H1.size = H.size) (oq : ∀ q : Nat, q ≠ a → H1[q]? = H[q]?) : HP G σ' H1 := by
  have hge := h.ge ha
  obtain ⟨h1, h2, h3, h4⟩ := h
  refine ⟨by rw [z, h1, hz], by rw [hz]; exact h2, fun q hq => by rw [oq q (by omega)]; exact h3 q hq, fun b hb => ?_⟩
  rw [hK] at hb
  obtain ⟨g1, g2⟩ := h4 b hb
  refine ⟨g1, ?_⟩
  by_cases e : b = a
  · subst e; exact hat
  · rw [ho b e]
    exact va_at.kept g2 (oq b e)
/-- one cell comes -/
theorem HP.push {G : ZG} {σ σ' : ZT} {H H1 : Heap} (h : HP G σ H) (hz : zsz σ' = zsz σ + 1) (hK : ∀ b : Nat, b ≠ zsz σ → zK σ' b = zK σ b) (ho : ∀ b : Nat, b ≠ zsz σ → zcell (gA G) σ' b = zcell (gA G) σ b) (hat : va_at (gD G) zCl (zsz σ, zcell (gA G) σ' (zsz σ)) H1) (z : H1.size = H.size + 1) (oq : ∀ q : Nat, q < H.size → H1[q]? = H[q]?) : HP G σ' H1 := by
  have hl := @HP.lt G σ H h
  obtain ⟨h1, h2, h3, h4⟩ := h
  refine ⟨by rw [z, h1, hz], by omega, fun q hq => by rw [oq q (by omega)]; exact h3 q hq, fun b hb => ?_⟩
  by_cases e : b = zsz σ
  · subst e; exact ⟨h2, hat⟩
  · rw [hK b e] at hb
    obtain ⟨g1, g2⟩ := h4 b hb
    refine ⟨g1, ?_⟩
    rw [ho b e]
    exact va_at.kept g2 (oq b (by rw [h1]; exact hl hb))
/-! ===== 4. the walk: a judgement over the abstract heap ===== -/
/-- a call's fixed things: program, environment, room, the state at its entry, method, arguments, frames below, the method's record, its code, the budget at its entry -/
abbrev ZX : Type := Program × Env × Room × State × MethodId × Array Value × List Frame × Method × Code × Nat × Nat
abbrev xp (X : ZX) : Program := X.1
abbrev xe (X : ZX) : Env := X.2.1
abbrev xR (X : ZX) : Room := X.2.2.1
abbrev xs (X : ZX) : State := X.2.2.2.1
abbrev xm (X : ZX) : MethodId := X.2.2.2.2.1
abbrev xa (X : ZX) : Array Value := X.2.2.2.2.2.1
abbrev xb (X : ZX) : List Frame := X.2.2.2.2.2.2.1
abbrev xmt (X : ZX) : Method := X.2.2.2.2.2.2.2.1
abbrev xc (X : ZX) : Code := X.2.2.2.2.2.2.2.2.1
abbrev xbc (X : ZX) : Nat := X.2.2.2.2.2.2.2.2.2.1
abbrev xbs (X : ZX) : Nat := X.2.2.2.2.2.2.2.2.2.2
def ZC (G : ZG) (own nm : String) (cc : ByteArray) (nL : Nat) (ret : Option FieldType) (tb : List (Nat × Nat × Nat × Nat)) (X : ZX) (d : Nat) : Prop :=
  (xp X).tables.exec = Jvm.exec ∧ (xc X).code = cc ∧ (xc X).maxLocals = nL ∧ (xs X).vm.findClass own = some (xm X).cls ∧ KK G (xs X) ∧ (xmt X).locks = false ∧ (xmt X).sig.returnType = ret ∧ (xc X).exceptionTable.toList = tableOf tb ∧ d ≤ (xR X).frames ∧ 11000 + 60 * d ≤ (xR X).locals ∧ xbc X ≤ (xR X).cells ∧ xbs X ≤ (xR X).slots ∧ (xmt X).name = nm
def ZW (l : Launch) (G : ZG) (nL : Nat) (X : ZX) (Q : State → Prop) (σ : ZT) (pc : Nat) (lv : List (Nat × Value)) (st : List Value) : Prop :=
  ∀ (H : Heap) (locs : List Loc) (ls : Array Slot), HP G σ H → (∀ q ∈ locs, gb G ≤ q.base) → zbc σ ≤ xbc X → zbs σ ≤ xbs X → lv_has ls nL lv →
    W (xp X) l (xe X) (xR X) (xs X) (xm X) (xa X) (xb X) (xmt X) (xc X) H locs (xbc X - zbc σ) (xbs X - zbs σ) Q (F0 (xm X) pc ls st)
/-- how a method ends: its outcome, the abstract heap behind it -/
def ZQ (G : ZG) (X : ZX) (o : Outcome) (σ' : ZT) : State → Prop := fun t => t.status = .running ∧ Ended t (xb X) o ∧ (xs X).WarmedH t.vm ∧ HP G σ' t.heap ∧ zbc σ' ≤ xbc X ∧ zbs σ' ≤ xbs X ∧ ∃ L : List Loc, (xs X).sameButNew ({ t with vm := (xs X).vm } : State) L (xbc X - zbc σ') (xbs X - zbs σ') ∧ ∀ q ∈ L, gb G ≤ q.base
/-- a method's contract: from σ with the arguments vs it ends by o, in σ' -/
def ZM (l : Launch) (G : ZG) (y : MethodName) (cc : ByteArray) (nL : Nat) (ret : Option FieldType) (tb : List (Nat × Nat × Nat × Nat)) (d : Nat) (vs : List Value) (σ : ZT) (o : Outcome) (σ' : ZT) : Prop :=
  ∀ X : ZX, ZC G y.cls y.name cc nL ret tb X d → xa X = vs.toArray → xbc X = zbc σ → xbs X = zbs σ → HP G σ (xs X).heap →
    W (xp X) l (xe X) (xR X) (xs X) (xm X) (xa X) (xb X) (xmt X) (xc X) (xs X).heap [] 0 0 (ZQ G X o σ') (entryFrame (xm X) (xa X) nL)
theorem ZM.of {l : Launch} {G : ZG} {y : MethodName} {cc : ByteArray} {nL : Nat} {ret : Option FieldType} {tb : List (Nat × Nat × Nat × Nat)} {d : Nat} {vs : List Value} {σ : ZT} {o : Outcome} {σ' : ZT} (lv : List (Nat × Value)) (hlv : lv_args 0 vs = lv) (hn : (lg_sl vs).length ≤ nL)
    (body : ∀ X : ZX, ZC G y.cls y.name cc nL ret tb X d → ZW l G nL X (ZQ G X o σ') σ 0 lv []) : ZM l G y cc nL ret tb d vs σ o σ' := by
  intro X C ha hc hs hP
  have h := body X C (xs X).heap [] _ hP (fun q h => by cases h) (by omega) (by omega) (hlv ▸ lv_entry vs hn)
  rw [hc, hs, Nat.sub_self, Nat.sub_self] at h
  rw [ha, lg_entry_eq]
  rw [ha] at h
  exact h
