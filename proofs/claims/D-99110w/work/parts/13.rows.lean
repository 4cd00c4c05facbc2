/-! ROWS: fields written, arrays, new cells -/
/-- a field's type, and whether it is final -/
def xFt (tg j : Nat) (ty : FieldType) (fin : Bool) : Prop := ∃ q : vw_C, mCl[tg]? = some q ∧ parseFieldDescriptor (q.2.1 j).2.2.1 = some ty ∧ (q.2.1 j).2.2.2 = fin ∧ mTy tg j = ty
def xFo (own : String) (tg j : Nat) : Prop := ∃ q : vw_C, mCl[tg]? = some q ∧ (q.2.1 j).1 = own
theorem vp_V_map {N : Nat} {f : Nat → Value} {j : Nat} (hj : j < N) : vp_V ((List.range N).map f) j = f j := by
  unfold vp_V
  rw [List.getD_eq_getElem?_getD, List.getElem?_map, List.getElem?_range hj]
  rfl
section XROWS3
variable {B : Nat} {G : XG} {y : MethodName} {cc : ByteArray} {nL : Nat} {ret : Option FieldType} {d Mc Ms : Nat} {k n : Nat} {σ : MM} {pc : Nat} {lv : LV} {st : List Value}
theorem x_put {σ' : MM} {a index tg N j : Nat} {v : Value} {ty : FieldType} (C : xC B G y cc nL ret d Mc Ms) (F : xFg y.cls index tg N j) (Ft : xFt tg j ty false) (hn : narrow ty v = v) (hfit : fits ty v = true) (hz : mT σ a = (tg, N)) (hT : mT σ' = mT σ) (hNN : mN σ' = mN σ) (hE : ∀ x, x ≠ a → ∀ tA, xE tA B σ' x = xE tA B σ x)
    (hV : ∀ i, i < N → xVal B σ' a tg i = if i = j then v else xVal B σ a tg i) (hdg : decode cc pc = .ok (.putfield index, 3)) (kk : xV B G k n σ' (pc + 3) lv st) : xV B G k n σ pc lv (v :: rv B a :: st) := by
  obtain ⟨p, l, e, R, s, m, args, below, meth, c, D, tA, HB, Q⟩ := G
  intro H locs ls hZ hL hl hk hs
  have hxE := fun h15 => xE_o (tA := tA) (B := B) hz h15
  obtain ⟨q, hc, hN, h15, hj, hin, hlk⟩ := F
  have h99 : (mT σ a).1 ≠ 99 := by rw [hz]; show tg ≠ 99; omega
  have h3 := (hZ.2.2.2 a h99).2.2
  rw [hxE h15] at h3
  obtain ⟨r, h1, cell, q1, q2, q3, q4⟩ := h3
  have hr : r = q := Option.some.inj (h1.symm.trans hc)
  subst hr
  obtain ⟨hS, hfc, kC, hkC, hkind⟩ := C.2.2.2.2.2.2.2.1.1.1 tg _ hc
  subst hN
  obtain ⟨cf, kf, fi, f, hi, hsl⟩ := hS j hj
  obtain ⟨q', hc', hd, hfin, -⟩ := Ft
  have hq : q' = r := Option.some.inj (hc'.symm.trans hc)
  subst hq
  have hts := C.2.2.2.2.2.2.1
  have hlay := hts _ (hin _ (u_in_lay hj))
  unfold u_lay at hlay
  rw [if_neg (by rw [hfin]; decide)] at hlay
  have hst := (u_facts hfc hkC (u_lays hts hin hj) hi).1
  have h6 := u_store hfc hkC hkind hlay hi hd hn hfit
  have hap := C.2.2.2.2.2.2.2.1.2.2.1 tg _ hc
  have key : ∀ H' : Heap, H'[B + a]? = some (cell.setSlot f.slot v) → H'.size = H.size → (∀ q, q ≠ B + a → H'[q]? = H[q]?) → W p l e R s m args below meth c H' (locs ++ [⟨B + a, f.slot⟩]) k n Q (F0 m (pc + 3) ls st) := by
    intro H' e1 e2 e3
    refine kk H' _ ls (hZ.upd h99 hT hNN (fun x hx => hE x hx tA) e2 e3 ?_) ?_ hl hk (cat_tl (cat_tl hs))
    · rw [xE_o (by rw [hT]; exact hz) h15]
      rw [hsl] at e1
      refine ⟨q', hc, t_OB.to ⟨_, e1, q2, q3, t_set q4 hap hj v⟩ (fun i hi2 => ?_)⟩
      rw [vp_V_map hi2, hV i hi2]
      unfold updV
      by_cases hij : i = j
      · rw [if_pos hij, if_pos hij]
      · rw [if_neg hij, if_neg hij, vp_V_map hi2]
    · intro x hx
      rcases List.mem_append.mp hx with h | h
      · exact hL x h
      · rw [List.mem_singleton.mp h]
        have := (hZ.2.2.2 a h99).1
        show B < B + a
        omega
  rw [rv_pos (hZ.ne h99)]
  rcases hlk with hlk | ⟨host, hlk⟩
  · exact W.putK C.1 C.2.1 (f := f) ⟨C.2.2.2.2.2.1, hts _ hlk, ⟨_, _, _, hi⟩, hst⟩ (by rw [q2]; exact h6) q1 q3 (by rw [hsl]; exact k2_hasslot (q4 j hj)) rfl rfl hdg key
  · exact va_WputK C.1 C.2.1 (f := f) C.2.2.2.2.2.1 (va_Nw.use rfl (C.2.2.2.2.2.2.2.1.2.1 _ hlk)) hi hst (by rw [q2]; exact h6) q1 q3 (by rw [hsl]; exact k2_hasslot (q4 j hj)) rfl rfl hdg key
/-- a final field, in its class's constructor -/
theorem x_putF {σ' : MM} {a index tg N j : Nat} {v : Value} {ty : FieldType} (C : xC B G y cc nL ret d Mc Ms) (hy : y.name = "<init>") (F : xFg y.cls index tg N j) (Fo : xFo y.cls tg j) (hlw : ∃ q : vw_C, mCl[tg]? = some q ∧ Cond.fieldLink y.cls index (q.2.1 j).1 (q.2.1 j).2.1 (q.2.1 j).2.2.1 ∈ lw_all) (Ft : xFt tg j ty true) (hn : narrow ty v = v) (hfit : fits ty v = true) (hz : mT σ a = (tg, N)) (hT : mT σ' = mT σ) (hNN : mN σ' = mN σ) (hE : ∀ x, x ≠ a → ∀ tA, xE tA B σ' x = xE tA B σ x)
    (hV : ∀ i, i < N → xVal B σ' a tg i = if i = j then v else xVal B σ a tg i) (hdg : decode cc pc = .ok (.putfield index, 3)) (kk : xV B G k n σ' (pc + 3) lv st) : xV B G k n σ pc lv (v :: rv B a :: st) := by
  obtain ⟨p, l, e, R, s, m, args, below, meth, c, D, tA, HB, Q⟩ := G
  intro H locs ls hZ hL hl hk hs
  have hxE := fun h15 => xE_o (tA := tA) (B := B) hz h15
  obtain ⟨q, hc, hN, h15, hj, hin, -⟩ := F
  have h99 : (mT σ a).1 ≠ 99 := by rw [hz]; show tg ≠ 99; omega
  have h3 := (hZ.2.2.2 a h99).2.2
  rw [hxE h15] at h3
  obtain ⟨r, h1, cell, q1, q2, q3, q4⟩ := h3
  have hr : r = q := Option.some.inj (h1.symm.trans hc)
  subst hr
  obtain ⟨hS, hfc, kC, hkC, hkind⟩ := C.2.2.2.2.2.2.2.1.1.1 tg _ hc
  subst hN
  obtain ⟨cf, kf, fi, f, hi, hsl⟩ := hS j hj
  obtain ⟨q', hc', hd, hfin, -⟩ := Ft
  have hq : q' = r := Option.some.inj (hc'.symm.trans hc)
  subst hq
  obtain ⟨q2', hc2, hlk⟩ := hlw
  have hq2 : q2' = q' := Option.some.inj (hc2.symm.trans hc)
  subst hq2
  obtain ⟨q3', hc3, hdecl⟩ := Fo
  have hq3 : q3' = q2' := Option.some.inj (hc3.symm.trans hc)
  subst hq3
  have hts := C.2.2.2.2.2.2.1
  have hlay := hts _ (hin _ (u_in_lay hj))
  unfold u_lay at hlay
  rw [if_pos hfin] at hlay
  have hst := (u_facts hfc hkC (u_lays hts hin hj) hi).1
  have hcf : m.cls = cf := by
    obtain ⟨_, _, c', _, _, _, -, -, hf', -, -, -, hown2, -⟩ := Cond.laysFinal_spec hlay
    have e1 : c' = cf := by have := hi.symm.trans hf'; simp at this; exact this.1.symm
    rw [hdecl] at hown2
    rw [← e1]; exact Option.some.inj (C.2.2.2.2.2.1.symm.trans hown2)
  have h6 := u_fits hfc hkC hkind (Or.inr hlay) hi hd hn hfit
  have hap := C.2.2.2.2.2.2.2.1.2.2.1 tg _ hc
  have hin2 : meth.name = "<init>" := C.2.2.2.2.2.2.2.2.2 hy
  rw [rv_pos (hZ.ne h99)]
  refine W.putFinK C.1 C.2.1 (f := f) C.2.2.2.2.2.1 (hts _ hlk) hi hst hcf hin2 (by rw [q2]; exact h6) q1 q3 (by rw [hsl]; exact k2_hasslot (q4 j hj)) rfl rfl hdg ?_
  intro H' e1 e2 e3
  refine kk H' _ ls (hZ.upd h99 hT hNN (fun x hx => hE x hx tA) e2 e3 ?_) ?_ hl hk (cat_tl (cat_tl hs))
  · rw [xE_o (by rw [hT]; exact hz) h15]
    rw [hsl] at e1
    refine ⟨q3', hc, t_OB.to ⟨_, e1, q2, q3, t_set q4 hap hj v⟩ (fun i hi2 => ?_)⟩
    rw [vp_V_map hi2, hV i hi2]
    unfold updV
    by_cases hij : i = j
    · rw [if_pos hij, if_pos hij]
    · rw [if_neg hij, if_neg hij, vp_V_map hi2]
  · intro x hx
    rcases List.mem_append.mp hx with h | h
    · exact hL x h
    · rw [List.mem_singleton.mp h]
      have := (hZ.2.2.2 a h99).1
      show B < B + a
      omega
theorem xVal_wI {B : Nat} {σ : MM} {a j tg i : Nat} {v : Int32} (ht : (mTy tg j).isReference = false) : xVal B (wI σ a j v) a tg i = if i = j then .int v else xVal B σ a tg i := by
  unfold xVal
  rw [mI_wI, mP_wI]
  by_cases h : i = j
  · subst h
    simp [ht]
  · simp [h]
theorem xVal_wP {B : Nat} {σ : MM} {a j tg i u : Nat} (ht : (mTy tg j).isReference = true) : xVal B (wP σ a j u) a tg i = if i = j then rv B u else xVal B σ a tg i := by
  unfold xVal
  rw [mP_wP, mI_wP]
  by_cases h : i = j
  · subst h
    simp [ht]
  · simp [h]
theorem r_putI {α : Type} {a index tg N j : Nat} {v : Int32} {f : MM → Option α} {r : α} (C : xC B G y cc nL ret d Mc Ms) (F : xFg y.cls index tg N j) (Ft : xFt tg j .int false) (hdg : decode cc pc = .ok (.putfield index, 3)) (h : (pI σ a tg N j v).bind f = some r) (kk : ∀ σ', f σ' = some r → xV B G k n σ' (pc + 3) lv st) : xV B G k n σ pc lv (.int v :: rv B a :: st) := by
  unfold pI at h
  by_cases hz : mT σ a = (tg, N)
  · rw [if_pos hz] at h
    have ht : (mTy tg j).isReference = false := by obtain ⟨_, -, -, -, e⟩ := Ft; exact congrArg FieldType.isReference e
    exact x_put (σ' := wI σ a j v) C F Ft rfl rfl hz rfl rfl (fun x hx tA => xE_wI_ne hx) (fun i _ => xVal_wI ht) hdg (kk (wI σ a j v) h)
  · rw [if_neg hz] at h; cases h
theorem r_putZ {α : Type} {a index tg N j : Nat} {v : Int32} {f : MM → Option α} {r : α} (C : xC B G y cc nL ret d Mc Ms) (F : xFg y.cls index tg N j) (Ft : xFt tg j .boolean false) (hdg : decode cc pc = .ok (.putfield index, 3)) (h : (pZ σ a tg N j v).bind f = some r) (kk : ∀ σ', f σ' = some r → xV B G k n σ' (pc + 3) lv st) : xV B G k n σ pc lv (.int v :: rv B a :: st) := by
  unfold pZ at h
  by_cases hz : mT σ a = (tg, N) ∧ (v = 0 ∨ v = 1)
  · rw [if_pos hz] at h
    have ht : (mTy tg j).isReference = false := by obtain ⟨_, -, -, -, e⟩ := Ft; exact congrArg FieldType.isReference e
    exact x_put (σ' := wI σ a j v) C F Ft (by rcases hz.2 with rfl | rfl <;> rfl) (by rcases hz.2 with rfl | rfl <;> rfl) hz.1 rfl rfl (fun x hx tA => xE_wI_ne hx) (fun i _ => xVal_wI ht) hdg (kk (wI σ a j v) h)
  · rw [if_neg hz] at h; cases h
theorem nar_o {cn : String} {B u : Nat} : narrow (.object cn) (rv B u) = rv B u ∧ fits (.object cn) (rv B u) = true := by
  by_cases h : u = 0
  · subst h; exact ⟨rfl, rfl⟩
  · rw [rv_pos h]; exact ⟨rfl, rfl⟩
theorem nar_a {t : FieldType} {B u : Nat} : narrow (.array t) (rv B u) = rv B u ∧ fits (.array t) (rv B u) = true := by
  by_cases h : u = 0
  · subst h; exact ⟨rfl, rfl⟩
  · rw [rv_pos h]; exact ⟨rfl, rfl⟩
theorem r_putP {α : Type} {a index tg N j u : Nat} {cn : String} {f : MM → Option α} {r : α} (C : xC B G y cc nL ret d Mc Ms) (F : xFg y.cls index tg N j) (Ft : xFt tg j (.object cn) false) (hdg : decode cc pc = .ok (.putfield index, 3)) (h : (pP σ a tg N j u).bind f = some r) (kk : ∀ σ', f σ' = some r → xV B G k n σ' (pc + 3) lv st) : xV B G k n σ pc lv (rv B u :: rv B a :: st) := by
  unfold pP at h
  by_cases hz : mT σ a = (tg, N)
  · rw [if_pos hz] at h
    have ht : (mTy tg j).isReference = true := by obtain ⟨_, -, -, -, e⟩ := Ft; exact congrArg FieldType.isReference e
    exact x_put (σ' := wP σ a j u) C F Ft nar_o.1 nar_o.2 hz rfl rfl (fun x hx tA => xE_wP_ne hx) (fun i _ => xVal_wP ht) hdg (kk (wP σ a j u) h)
  · rw [if_neg hz] at h; cases h
/-- what a constructor's final field wants of the tables -/
def xFc (own : String) (index tg j : Nat) : Prop := xFo own tg j ∧ ∃ q : vw_C, mCl[tg]? = some q ∧ Cond.fieldLink own index (q.2.1 j).1 (q.2.1 j).2.1 (q.2.1 j).2.2.1 ∈ lw_all
theorem r_putIF {α : Type} {a index tg N j : Nat} {v : Int32} {f : MM → Option α} {r : α} (C : xC B G y cc nL ret d Mc Ms) (hy : y.name = "<init>") (F : xFg y.cls index tg N j) (Fc : xFc y.cls index tg j) (Ft : xFt tg j .int true) (hdg : decode cc pc = .ok (.putfield index, 3)) (h : (pI σ a tg N j v).bind f = some r) (kk : ∀ σ', f σ' = some r → xV B G k n σ' (pc + 3) lv st) : xV B G k n σ pc lv (.int v :: rv B a :: st) := by
  unfold pI at h
  by_cases hz : mT σ a = (tg, N)
  · rw [if_pos hz] at h
    have ht : (mTy tg j).isReference = false := by obtain ⟨_, -, -, -, e⟩ := Ft; exact congrArg FieldType.isReference e
    exact x_putF (σ' := wI σ a j v) C hy F Fc.1 Fc.2 Ft rfl rfl hz rfl rfl (fun x hx tA => xE_wI_ne hx) (fun i _ => xVal_wI ht) hdg (kk (wI σ a j v) h)
  · rw [if_neg hz] at h; cases h
theorem r_putPF {α : Type} {a index tg N j u : Nat} {ty : FieldType} {f : MM → Option α} {r : α} (C : xC B G y cc nL ret d Mc Ms) (hy : y.name = "<init>") (F : xFg y.cls index tg N j) (Fc : xFc y.cls index tg j) (Ft : xFt tg j ty true) (ht : (∃ cn, ty = .object cn) ∨ ∃ t, ty = .array t) (hdg : decode cc pc = .ok (.putfield index, 3)) (h : (pP σ a tg N j u).bind f = some r) (kk : ∀ σ', f σ' = some r → xV B G k n σ' (pc + 3) lv st) : xV B G k n σ pc lv (rv B u :: rv B a :: st) := by
  unfold pP at h
  by_cases hz : mT σ a = (tg, N)
  · rw [if_pos hz] at h
    rcases ht with ⟨cn, rfl⟩ | ⟨t, rfl⟩
    · have ht : (mTy tg j).isReference = true := by obtain ⟨_, -, -, -, e⟩ := Ft; exact congrArg FieldType.isReference e
      exact x_putF (σ' := wP σ a j u) C hy F Fc.1 Fc.2 Ft nar_o.1 nar_o.2 hz rfl rfl (fun x hx tA => xE_wP_ne hx) (fun i _ => xVal_wP ht) hdg (kk (wP σ a j u) h)
    · have ht : (mTy tg j).isReference = true := by obtain ⟨_, -, -, -, e⟩ := Ft; exact congrArg FieldType.isReference e
      exact x_putF (σ' := wP σ a j u) C hy F Fc.1 Fc.2 Ft nar_a.1 nar_a.2 hz rfl rfl (fun x hx tA => xE_wP_ne hx) (fun i _ => xVal_wP ht) hdg (kk (wP σ a j u) h)
  · rw [if_neg hz] at h; cases h
end XROWS3
