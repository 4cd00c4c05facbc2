/-! THE MEMORY: ints, pointers, kinds of the cells made since the law began, how many cells, how many slots. Pointer 0 is null; pointer p is the address B + p -/
abbrev MM : Type := (Nat → Nat → Int32) × (Nat → Nat → Nat) × (Nat → Nat × Nat) × Nat × Nat
def mI (σ : MM) (a j : Nat) : Int32 := σ.1 a j
def mP (σ : MM) (a j : Nat) : Nat := σ.2.1 a j
def mT (σ : MM) (a : Nat) : Nat × Nat := σ.2.2.1 a
def mN (σ : MM) : Nat := σ.2.2.2.1
def mL (σ : MM) : Nat := σ.2.2.2.2
def wI (σ : MM) (a j : Nat) (v : Int32) : MM := (fun x y => if x = a ∧ y = j then v else σ.1 x y, σ.2)
def wP (σ : MM) (a j u : Nat) : MM := (σ.1, fun x y => if x = a ∧ y = j then u else σ.2.1 x y, σ.2.2)
/-- a new cell, all nought -/
def nO (σ : MM) (t : Nat × Nat) : MM := (fun x y => if x = mN σ + 1 then 0 else σ.1 x y, fun x y => if x = mN σ + 1 then 0 else σ.2.1 x y, fun x => if x = mN σ + 1 then t else σ.2.2.1 x, mN σ + 1, mL σ + t.2)
def op_ (B p : Nat) : Option Nat := if p = 0 then none else some (B + p)
def rv (B p : Nat) : Value := va_rf (op_ B p)
theorem rv_pos {B p : Nat} (h : p ≠ 0) : rv B p = .ref (B + p) := by unfold rv op_; rw [if_neg h]; rfl
theorem rv_0 {B : Nat} : rv B 0 = .null := rfl
theorem rv_cat (B p : Nat) : (rv B p).category = 1 := by
  by_cases h : p = 0
  · subst h; rfl
  · rw [rv_pos h]; rfl
/-- the classes of which objects are made, by tags 0 .. 14 -/
def mCl : List vw_C := [(RX0, TX0, 22), (RX2, TX2, 10), (RX3, TX3, 16), (RX4, TX4, 1), (RX5, TX5, 4), (RX6, TX6, 62), (RX7, TX7, 7), (RX9, TX9, 3), (RX10, TX10, 1), (RX11, TX11, 1), (RX13, TX13, 3), (RX14, TX14, 1), (RX15, TX15, 3), (RX17, TX17, 8), (RX18, TX18, 9)]
def mTy (tg : Nat) : Nat → FieldType := match tg with
  | 0 => tyX0 | 1 => tyX2 | 2 => tyX3 | 3 => tyX4 | 4 => tyX5 | 5 => tyX6 | 6 => tyX7 | 7 => tyX9 | 8 => tyX10 | 9 => tyX11 | 10 => tyX13 | 11 => tyX14 | 12 => tyX15 | 13 => tyX17 | _ => tyX18
def xVal (B : Nat) (σ : MM) (a tg j : Nat) : Value := if (mTy tg j).isReference = true then rv B (mP σ a j) else .int (mI σ a j)
/-- a cell, by its kind: tags 0 .. 14 objects; 20 int[], 21 byte[], 22 int[][], 23 Sum[], 24 Condition[] -/
def xE (tA : Nat → ClassId) (B : Nat) (σ : MM) (a : Nat) : va_E :=
  if (mT σ a).1 < 15 then .inr ((mT σ a).1, (List.range (mT σ a).2).map (xVal B σ a (mT σ a).1))
  else if (mT σ a).1 = 20 then .inl (tA 0, (mT σ a).2, .inl (mI σ a))
  else if (mT σ a).1 = 21 then .inl (tA 1, (mT σ a).2, .inl (mI σ a))
  else .inl (tA ((mT σ a).1 - 20), (mT σ a).2, .inr (.inr (.inr (.inr (fun j => op_ B (mP σ a j))))))
theorem xE_o {tA : Nat → ClassId} {B : Nat} {σ : MM} {a tg n : Nat} (h : mT σ a = (tg, n)) (ht : tg < 15) : xE tA B σ a = .inr (tg, (List.range n).map (xVal B σ a tg)) := by
  unfold xE; rw [h]; rw [if_pos ht]
theorem xE_i {tA : Nat → ClassId} {B : Nat} {σ : MM} {a n : Nat} (h : mT σ a = (20, n)) : xE tA B σ a = .inl (tA 0, n, .inl (mI σ a)) := by
  unfold xE; rw [h]; rfl
theorem xE_b {tA : Nat → ClassId} {B : Nat} {σ : MM} {a n : Nat} (h : mT σ a = (21, n)) : xE tA B σ a = .inl (tA 1, n, .inl (mI σ a)) := by
  unfold xE; rw [h]; rfl
theorem xE_p {tA : Nat → ClassId} {B : Nat} {σ : MM} {a n k : Nat} (h : mT σ a = (22 + k, n)) : xE tA B σ a = .inl (tA (2 + k), n, .inr (.inr (.inr (.inr (fun j => op_ B (mP σ a j)))))) := by
  unfold xE; rw [h]
  rw [if_neg (by show ¬ 22 + k < 15; omega), if_neg (by show ¬ 22 + k = 20; omega), if_neg (by show ¬ 22 + k = 21; omega)]
  rw [show (22 + k, n).1 - 20 = 2 + k from by show 22 + k - 20 = 2 + k; omega]
/-- the tables: classes, array classes, words of nest mates -/
def nestW (w : Cond) : Bool := match w with
  | .fieldLinkNest .. => true
  | .methodLinkNest .. => true
  | .declares .. => true
  | .castable .. => true
  | _ => false
def lw_nest : List Cond := lw_tbl.filter nestW
theorem in_nest {w : Cond} (h : w ∈ lw_tbl) (g : nestW w = true) : w ∈ lw_nest := List.mem_filter.mpr ⟨h, g⟩
def xN (U : State) : Prop := ∀ w ∈ lw_nest, va_Nw w U
theorem xN.moved {s U : State} (hW : s.WarmedH U.vm) (h : xN s) : xN U := by
  intro w hw
  have h1 := h w hw
  have h2 := (List.mem_filter.mp hw).2
  cases w <;> first | exact absurd h2 Bool.false_ne_true | exact va_Nw.warmF hW h1 | exact va_Nw.warmM hW h1 | exact va_Nw.warmD hW h1 | exact va_Nw.warmC hW h1
theorem nestW_tab {w : Cond} (h : nestW w = true) : w.onTables = true := by
  cases w <;> first | rfl | exact absurd h Bool.false_ne_true
theorem xN.same {s U : State} (hv : s.vm = U.vm) (h : xN s) : xN U := fun w hw => va_Nw.same (nestW_tab (List.mem_filter.mp hw).2) hv (h w hw)
def mTys (tA : Nat → ClassId) : List (ClassId × FieldType) := [(tA 0, .int), (tA 1, .byte), (tA 2, .array .int), (tA 3, .object "OneCoin$Sum"), (tA 4, .object "OneCoin$Condition")]
def xApart (D : va_G) : Prop := ∀ (tg : Nat) (q : vw_C), mCl[tg]? = some q → ∀ x y, x < q.2.2 → y < q.2.2 → x ≠ y → D.2 tg x ≠ D.2 tg y
/-- the array classes over references -/
def xO (U : State) : Prop := va_AO "OneCoin$Sum" U ∧ va_AO "OneCoin$Condition" U ∧ (Cond.arrayOver (.array .int)).before #[] U = true
theorem xOA.moved {t : FieldType} {u U : State} (hvm : u.vm.Alike U.vm) (h : (Cond.arrayOver (.array t)).before #[] u = true) : (Cond.arrayOver (.array t)).before #[] U = true := by
  obtain ⟨comp, c, k, h1, h2, h3, h4, h5⟩ := arrayOverA_spec h
  obtain ⟨k', hk', he⟩ := hvm.2.2 _ _ h3
  have hi : (U.vm.classes.findIdx? fun (x : Class) => match x.kind with | .array component _ => component == comp | _ => false) = some c := by
    have e1 := va_idx_bare U.vm comp
    have e2 := va_idx_bare u.vm comp
    have e3 : U.vm.bare = u.vm.bare := by first | exact hvm.bare_eq | exact hvm.bare_eq.symm
    rw [e3] at e1
    exact e1.symm.trans (e2.trans h2)
  have hkind : k'.kind = .array comp (.array t) := by rw [he]; exact h4
  have f1 : U.vm.findClass (FieldType.array t).toString = some comp := by rw [hvm.findClass]; exact h1
  have f2 : U.vm.findClass ("[" ++ (FieldType.array t).toString) = some c := by rw [hvm.findClass]; exact h5
  unfold Cond.before Cond.holds
  simp only [Cond.value]
  rw [f1, Option.bind_some]
  refine (congrArg (fun o : Option Nat => (o.bind (fun c => (U.vm.classes[c]?).map fun (k : Class) => match k.kind with | .array _ ty => decide (ty = FieldType.array t) && decide (U.vm.findClass ("[" ++ (FieldType.array t).toString) = some c) | _ => false) == some true)) hi).trans ?_
  simp [hk', hkind, f2]
theorem xO.moved {s U : State} (hvm : s.vm.Alike U.vm) (h : xO s) : xO U := ⟨va_AO.moved hvm h.1, va_AO.moved hvm h.2.1, xOA.moved hvm h.2.2⟩
/-- the heap ahead of the law, the two Strings' addresses and their arrays' -/
abbrev XH : Type := Heap × (Nat → Nat) × (Nat → Nat)
/-- what is known of the Strings that Reader asks -/
def sLen : List Nat := [8, 4]
def sByt : List (List Int32) := [[104, 99, 110, 111, 119, 103, 116, 121], [101, 105, 114, 115]]
def xS (B : Nat) (HB : XH) (U : State) : Prop := vk_S 2 sLen sByt HB.2.1 HB.2.2 (fun q => B < q) U HB.1 ∧ vk_R "OneCoin$Reader" 75 "hcnowgty" (HB.2.1 0) U ∧ vk_R "OneCoin$Reader" 129 "eirs" (HB.2.1 1) U ∧ va_Z "java/lang/String" "COMPACT_STRINGS" "Z" (.int 1) (fun q => B < q) U HB.1
theorem xS.moved {B : Nat} {HB : XH} {s U : State} (hW : s.WarmedH U.vm) (h : xS B HB s) : xS B HB U := ⟨vk_S.moved hW.alike h.1, vk_R.warm hW h.2.1, vk_R.warm hW h.2.2.1, va_Z.moved hW.alike h.2.2.2⟩
theorem xS.same {B : Nat} {HB : XH} {s U : State} (hv : s.vm = U.vm) (h : xS B HB s) : xS B HB U := ⟨vk_S.moved (hv ▸ Vm.Alike.refl s.vm) h.1, vk_R.same hv.symm h.2.1, vk_R.same hv.symm h.2.2.1, va_Z.moved (hv ▸ Vm.Alike.refl s.vm) h.2.2.2⟩
def xK (B : Nat) (HB : XH) (D : va_G) (tA : Nat → ClassId) (U : State) : Prop := va_K D mCl (mTys tA) U ∧ xN U ∧ xApart D ∧ xO U ∧ xS B HB U
theorem xK.moved {B : Nat} {HB : XH} {D : va_G} {tA : Nat → ClassId} {s U : State} (hW : s.WarmedH U.vm) (h : xK B HB D tA s) : xK B HB D tA U := ⟨va_K.moved hW.alike h.1, h.2.1.moved hW, h.2.2.1, h.2.2.2.1.moved hW.alike, h.2.2.2.2.moved hW⟩
theorem xK.same {B : Nat} {HB : XH} {D : va_G} {tA : Nat → ClassId} {s U : State} (hv : s.vm = U.vm) (h : xK B HB D tA s) : xK B HB D tA U := ⟨va_K.moved (hv ▸ Vm.Alike.refl s.vm) h.1, h.2.1.same hv, h.2.2.1, h.2.2.2.1.moved (hv ▸ Vm.Alike.refl s.vm), h.2.2.2.2.same hv⟩
/-- the heap H holds the memory σ, above the old heap HB of B + 1 cells -/
def xZ (D : va_G) (tA : Nat → ClassId) (B : Nat) (HB : XH) (σ : MM) (H : Heap) : Prop :=
  HB.1.size = B + 1 ∧ H.size = B + 1 + mN σ ∧ (∀ q : Nat, q ≤ B → H[q]? = HB.1[q]?) ∧ ∀ a : Nat, (mT σ a).1 ≠ 99 → 1 ≤ a ∧ a ≤ mN σ ∧ va_at D mCl (B + a, xE tA B σ a) H
theorem xZ.at {D : va_G} {tA : Nat → ClassId} {B : Nat} {HB : XH} {σ : MM} {H : Heap} (h : xZ D tA B HB σ H) {a : Nat} (ha : (mT σ a).1 ≠ 99) : va_P D mCl [(B + a, xE tA B σ a)] H := by
  intro k q hk
  cases k with
  | zero => cases hk; exact (h.2.2.2 a ha).2.2
  | succ k => simp at hk
theorem xZ.ne {D : va_G} {tA : Nat → ClassId} {B : Nat} {HB : XH} {σ : MM} {H : Heap} (h : xZ D tA B HB σ H) {a : Nat} (ha : (mT σ a).1 ≠ 99) : a ≠ 0 := by
  have := (h.2.2.2 a ha).1
  omega
/-- one cell is another, all else stays -/
theorem xZ.upd {D : va_G} {tA : Nat → ClassId} {B : Nat} {HB : XH} {σ σ' : MM} {H H' : Heap} (h : xZ D tA B HB σ H) {a : Nat} (ha : (mT σ a).1 ≠ 99) (hT : mT σ' = mT σ) (hN : mN σ' = mN σ) (hE : ∀ x, x ≠ a → xE tA B σ' x = xE tA B σ x)
    (hz : H'.size = H.size) (ho : ∀ q : Nat, q ≠ B + a → H'[q]? = H[q]?) (hat : va_at D mCl (B + a, xE tA B σ' a) H') : xZ D tA B HB σ' H' := by
  refine ⟨h.1, by rw [hz, hN]; exact h.2.1, fun q hq => (ho q (by have := h.2.2.2 a ha; omega)).trans (h.2.2.1 q hq), fun x hx => ?_⟩
  rw [hT] at hx
  rw [hN]
  have h1 := h.2.2.2 x hx
  by_cases hxa : x = a
  · subst hxa
    exact ⟨h1.1, h1.2.1, hat⟩
  · refine ⟨h1.1, h1.2.1, ?_⟩
    rw [hE x hxa]
    exact h1.2.2.kept (ho (B + x) (by omega))
theorem mT_wI (σ : MM) (a j : Nat) (v : Int32) : mT (wI σ a j v) = mT σ := rfl
theorem mT_wP (σ : MM) (a j u : Nat) : mT (wP σ a j u) = mT σ := rfl
theorem mI_wI (σ : MM) (a j : Nat) (v : Int32) (x y : Nat) : mI (wI σ a j v) x y = if x = a ∧ y = j then v else mI σ x y := rfl
theorem mP_wI (σ : MM) (a j : Nat) (v : Int32) : mP (wI σ a j v) = mP σ := rfl
theorem mI_wP (σ : MM) (a j u : Nat) : mI (wP σ a j u) = mI σ := rfl
theorem mP_wP (σ : MM) (a j u x y : Nat) : mP (wP σ a j u) x y = if x = a ∧ y = j then u else mP σ x y := rfl
theorem xE_wI_ne {tA : Nat → ClassId} {B : Nat} {σ : MM} {a j x : Nat} {v : Int32} (h : x ≠ a) : xE tA B (wI σ a j v) x = xE tA B σ x := by
  have e : mI (wI σ a j v) x = mI σ x := by
    funext y
    rw [mI_wI, if_neg (fun q => h q.1)]
  have e2 : xVal B (wI σ a j v) x = xVal B σ x := by
    funext tg y
    unfold xVal
    rw [e, mP_wI]
  unfold xE
  rw [mT_wI, e, e2, mP_wI]
theorem xE_wP_ne {tA : Nat → ClassId} {B : Nat} {σ : MM} {a j x u : Nat} (h : x ≠ a) : xE tA B (wP σ a j u) x = xE tA B σ x := by
  have e : mP (wP σ a j u) x = mP σ x := by
    funext y
    rw [mP_wP, if_neg (fun q => h q.1)]
  have e2 : xVal B (wP σ a j u) x = xVal B σ x := by
    funext tg y
    unfold xVal
    rw [e, mI_wP]
  unfold xE
  rw [mT_wP, e, e2, mI_wP]
/-- a new cell -/
theorem xZ.push {D : va_G} {tA : Nat → ClassId} {B : Nat} {HB : XH} {σ : MM} {H H1 : Heap} {t : Nat × Nat} (h : xZ D tA B HB σ H) (hz : H1.size = H.size + 1) (hkeep : ∀ q : Nat, q < H.size → H1[q]? = H[q]?) (hat : va_at D mCl (H.size, xE tA B (nO σ t) (mN σ + 1)) H1) : xZ D tA B HB (nO σ t) H1 := by
  refine ⟨h.1, by rw [hz, h.2.1]; rfl, fun q hq => (hkeep q (by have := h.2.1; omega)).trans (h.2.2.1 q hq), fun x hx => ?_⟩
  have eN : mN (nO σ t) = mN σ + 1 := rfl
  rw [eN]
  by_cases hxa : x = mN σ + 1
  · subst hxa
    have e9 : B + (mN σ + 1) = H.size := by have := h.2.1; omega
    refine ⟨by omega, Nat.le_refl _, ?_⟩
    rw [e9]
    exact hat
  · have eT : mT (nO σ t) x = mT σ x := if_neg hxa
    rw [eT] at hx
    have h1 := h.2.2.2 x hx
    have eI : mI (nO σ t) x = mI σ x := by funext y; exact if_neg hxa
    have eP : mP (nO σ t) x = mP σ x := by funext y; exact if_neg hxa
    have eV : xVal B (nO σ t) x = xVal B σ x := by funext tg y; unfold xVal; rw [eI, eP]
    have eE : xE tA B (nO σ t) x = xE tA B σ x := by unfold xE; rw [eT, eI, eP, eV]
    refine ⟨h1.1, by omega, ?_⟩
    rw [eE]
    refine h1.2.2.kept (hkeep _ ?_)
    have := h.2.1
    show B + x < H.size
    omega
theorem nO_T (σ : MM) (t : Nat × Nat) : mT (nO σ t) (mN σ + 1) = t := if_pos rfl
theorem nO_I (σ : MM) (t : Nat × Nat) (j : Nat) : mI (nO σ t) (mN σ + 1) j = 0 := if_pos rfl
theorem nO_P (σ : MM) (t : Nat × Nat) (j : Nat) : mP (nO σ t) (mN σ + 1) j = 0 := if_pos rfl
/-- ten rows of ten ints, and the array of them -/
def nG (σ : MM) : MM := (fun x y => if mN σ < x ∧ x ≤ mN σ + 11 then 0 else σ.1 x y, fun x y => if x = mN σ + 1 then mN σ + 2 + y else if mN σ < x ∧ x ≤ mN σ + 11 then 0 else σ.2.1 x y, fun x => if x = mN σ + 1 then (22, 10) else if mN σ < x ∧ x ≤ mN σ + 11 then (20, 10) else σ.2.2.1 x, mN σ + 11, mL σ + 110)
/-- an index within -/
abbrev ix (i : Int32) (n : Nat) : Prop := ¬ i < 0 ∧ i.toNatClampNeg < n
theorem ix.vp {i : Int32} {n : Nat} (h : ix i n) : vp_in i n := fun q => q.elim (fun q => h.1 q) (fun q => Nat.not_le.mpr h.2 q)
/-! the operations, each with what must hold for it -/
def gI (σ : MM) (a tg n j : Nat) : Option Int32 := if mT σ a = (tg, n) then some (mI σ a j) else none
def gP (σ : MM) (a tg n j : Nat) : Option Nat := if mT σ a = (tg, n) then some (mP σ a j) else none
def pI (σ : MM) (a tg n j : Nat) (v : Int32) : Option MM := if mT σ a = (tg, n) then some (wI σ a j v) else none
def pZ (σ : MM) (a tg n j : Nat) (v : Int32) : Option MM := if mT σ a = (tg, n) ∧ (v = 0 ∨ v = 1) then some (wI σ a j v) else none
def pP (σ : MM) (a tg n j u : Nat) : Option MM := if mT σ a = (tg, n) then some (wP σ a j u) else none
def aI (σ : MM) (a tg : Nat) (i : Int32) : Option Int32 := if (mT σ a).1 = tg ∧ ix i (mT σ a).2 then some (mI σ a i.toNatClampNeg) else none
def sI (σ : MM) (a : Nat) (i v : Int32) : Option MM := if (mT σ a).1 = 20 ∧ ix i (mT σ a).2 then some (wI σ a i.toNatClampNeg v) else none
def sB (σ : MM) (a : Nat) (i v : Int32) : Option MM := if (mT σ a).1 = 21 ∧ ix i (mT σ a).2 then some (wI σ a i.toNatClampNeg (vp_nar .byte v)) else none
def aP (σ : MM) (a tg : Nat) (i : Int32) : Option Nat := if (mT σ a).1 = tg ∧ ix i (mT σ a).2 then some (mP σ a i.toNatClampNeg) else none
/-- into an array of Sums a Row (tag 7) or null, of Conditions a Some (tag 10) or null -/
def sP (σ : MM) (a tg : Nat) (i : Int32) (u : Nat) : Option MM := if (mT σ a).1 = tg ∧ ix i (mT σ a).2 ∧ (u = 0 ∨ (mT σ u).1 = (if tg = 23 then 7 else 10)) then some (wP σ a i.toNatClampNeg u) else none
def dv (x y : Int32) : Option Int32 := if y = 0 then none else some (x / y)
def rm_ (x y : Int32) : Option Int32 := if y = 0 then none else some (x - x / y * y)
/-- an answer that is a truth value -/
def rz (v : Int32) : Option Int32 := if v = 0 ∨ v = 1 then some v else none
