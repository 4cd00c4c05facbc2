/-! ROWS: new cells named; constructors; rooms rounded up -/
def nw {α : Type} (σ : MM) (t : Nat × Nat) (f : Nat → MM → Option α) : Option α := f (mN σ + 1) (nO σ t)
def nwG {α : Type} (σ : MM) (f : Nat → MM → Option α) : Option α := f (mN σ + 1) (nG σ)
theorem classCl {tg N : Nat} {Cn : String} (q : vw_C) (h1 : mCl[tg]? = some q) (h2 : q.1 = Cn) (h3 : q.2.2 = N) (h4 : tg < 15) (h5 : ∀ w ∈ u_ws q.1 q.2.1 q.2.2, w ∈ lw_all) (h6 : ∀ j, j < N → parseFieldDescriptor (q.2.1 j).2.2.1 = some (mTy tg j)) (h7 : (List.range N).all (fun j => decide (defaultValue (mTy tg j) = if (mTy tg j).isReference = true then .null else .int 0)) = true) : xCl tg N Cn :=
  ⟨q, h1, h2, h3, h4, h5, h6, fun j hj => of_decide_eq_true (List.all_eq_true.mp h7 j (List.mem_range.mpr hj))⟩
def jmax (x y : Int32) : Int32 := if x < y then y else x
def jmin (x y : Int32) : Int32 := if y < x then y else x
def jabs (x : Int32) : Int32 := if 0 ≤ x then x else 0 - x
section XROWS9
variable {B : Nat} {G : XG} {y : MethodName} {cc : ByteArray} {nL : Nat} {ret : Option FieldType} {d Mc Ms : Nat} {k n : Nat} {σ : MM} {pc : Nat} {lv : LV} {st : List Value}
theorem r_widen {k' n' : Nat} (hk : k ≤ k') (hn : n ≤ n') (kk : xV B G k' n' σ pc lv st) : xV B G k n σ pc lv st := by
  obtain ⟨p, l, e, R, s, m, args, below, meth, c, D, tA, HB, Q⟩ := G
  intro H locs ls hZ hL hl hk2 hs
  exact W.widen hk hn (kk H locs ls hZ hL hl hk2 hs)
theorem r_newB {α : Type} {index tg N k' n' : Nat} {Cn : String} {f : Nat → MM → Option α} {r : α} (C : xC B G y cc nL ret d Mc Ms) (hK : xCl tg N Cn) (hlk : Cond.classLink y.cls index Cn ∈ lw_all) (hins : Cond.instantiable Cn N ∈ lw_all) (hini : Cond.initialized Cn ∈ lw_all) (hdg : decode cc pc = .ok (.new index, 3)) (hc : k + 1 ≤ Mc) (hsl : n + N ≤ Ms) (ek : k + 1 = k') (en : n + N = n') (h : nw σ (tg, N) f = some r) (kk : ∀ (p : Nat) (σ' : MM), f p σ' = some r → xV B G k' n' σ' (pc + 3) lv (rv B p :: st)) : xV B G k n σ pc lv st := by
  subst ek; subst en
  exact r_new C hK hlk hins hini hdg hc hsl (kk _ _ h)
theorem r_newaB {α : Type} {t : Nat} {atype : ArrayType} {v : Int32} {N k' n' : Nat} {f : Nat → MM → Option α} {r : α} (C : xC B G y cc nL ret d Mc Ms) (ht : t < 2) (hat : newarray.typeOf atype = (if t = 0 then .int else .byte)) (harr : Cond.arrayClass (newarray.typeOf atype) ∈ lw_all) (hdg : decode cc pc = .ok (.newarray atype, 2)) (hv : ¬ v < 0) (hN : v.toNatClampNeg = N) (hNb : N ≤ 100000) (hc : k + 1 ≤ Mc) (hsl : n + N ≤ Ms) (ek : k + 1 = k') (en : n + N = n') (h : nw σ (20 + t, N) f = some r) (kk : ∀ (p : Nat) (σ' : MM), f p σ' = some r → xV B G k' n' σ' (pc + 2) lv (rv B p :: st)) : xV B G k n σ pc lv (.int v :: st) := by
  subst ek; subst en
  exact x_newa C ht hat harr hdg hv hN hNb hc hsl (kk _ _ h)
theorem r_anewB {α : Type} {index q : Nat} {v : Int32} {N k' n' : Nat} {En : String} {f : Nat → MM → Option α} {r : α} (C : xC B G y cc nL ret d Mc Ms) (hq : q < 2) (hEn : En = if q = 0 then "OneCoin$Sum" else "OneCoin$Condition") (hlk : Cond.classLink y.cls index En ∈ lw_all) (hdg : decode cc pc = .ok (.anewarray index, 3)) (hv : ¬ v < 0) (hN : v.toNatClampNeg = N) (hNb : N ≤ 100000) (hc : k + 1 ≤ Mc) (hsl : n + N ≤ Ms) (ek : k + 1 = k') (en : n + N = n') (h : nw σ (23 + q, N) f = some r) (kk : ∀ (p : Nat) (σ' : MM), f p σ' = some r → xV B G k' n' σ' (pc + 3) lv (rv B p :: st)) : xV B G k n σ pc lv (.int v :: st) := by
  subst ek; subst en
  exact r_anew C hq hEn hlk hdg hv hN hNb hc hsl (kk _ _ h)
theorem r_multiB {α : Type} {index k' n' : Nat} {f : Nat → MM → Option α} {r : α} (C : xC B G y cc nL ret d Mc Ms) (hlk : Cond.classLink y.cls index "[[I" ∈ lw_all) (harr : Cond.arrayClass .int ∈ lw_all) (hdg : decode cc pc = .ok (.multianewarray index 2, 4)) (hc : k + 11 ≤ Mc) (hsl : n + 110 ≤ Ms) (ek : k + 11 = k') (en : n + 110 = n') (h : nwG σ f = some r) (kk : ∀ (p : Nat) (σ' : MM), f p σ' = some r → xV B G k' n' σ' (pc + 4) lv (rv B p :: st)) : xV B G k n σ pc lv (.int 10 :: .int 10 :: st) := by
  subst ek; subst en
  exact r_multi C hlk harr hdg hc hsl (kk _ _ h)
theorem r_objI {α : Type} {index a : Nat} {x : Option α} {r : α} (C : xC B G y cc nL ret d Mc Ms) (h1 : Cond.methodLink y.cls index objectInit ∈ lw_all) (h2 : Cond.instanceMethod objectInit ∈ lw_all) (h3 : Cond.code objectInit ⟨#[0xb1]⟩ 1 none ∈ lw_all) (hd : 1 ≤ d) (hst : st.length ≤ 8) (hdg : decode cc pc = .ok (.invokespecial index, 3)) (h : (if (mT σ a).1 ≠ 99 then x else none) = some r) (kk : x = some r → xV B G k n σ (pc + 3) lv st) : xV B G k n σ pc lv (rv B a :: st) := by
  obtain ⟨ha, h⟩ := r_ck h
  have kk := kk h
  obtain ⟨p, l, e, R, s, m, args, below, meth, c, D, tA, HB, Q⟩ := G
  intro H locs ls hZ hL hl hk hs
  exact r_objInit (G := (p, l, e, R, s, m, args, below, meth, c, D, tA, HB, Q)) C (hZ.ne ha) h1 h2 h3 hd hst hdg kk H locs ls hZ hL hl hk hs
theorem r_callI {α : Type} {y' : MethodName} {cc' : ByteArray} {nL' : Nat} {d' mc ms na k' n' : Nat} {As : List Value} {b index : Nat} {x : Option MM} {f : MM → Option α} {r : α} (C : xC B G y cc nL ret d Mc Ms) (cs : xCI y.cls index y' cc' nL' na) (h : x.bind f = some r) (hM : ∀ σ', x = some σ' → xMA B y' cc' nL' none d' mc ms (rv B b :: As) σ none σ') (hT : ∀ σ', x = some σ' → (mT σ b).1 ≠ 99) (hd : d' + 1 ≤ d) (hc : k + mc ≤ Mc) (hsl : n + ms ≤ Ms) (ek : k + mc = k') (en : n + ms = n') (hst : st.length ≤ 8) (hdg : decode cc pc = .ok (.invokespecial index, 3)) (kk : ∀ σ', f σ' = some r → xV B G k' n' σ' (pc + 3) lv st) (hna : As.length = na := by rfl) : xV B G k n σ pc lv (As.reverse ++ rv B b :: st) := by
  subst ek; subst en
  obtain ⟨σ', e, h⟩ := r_bm h
  have hm := hM σ' e
  have ht := hT σ' e
  have kk := kk σ' h
  obtain ⟨p, l, e9, R, s, m, args, below, meth, c, D, tA, HB, Q⟩ := G
  intro H locs ls hZ hL hl hk hs
  exact x_cI (G := (p, l, e9, R, s, m, args, below, meth, c, D, tA, HB, Q)) C cs hna hm (hZ.ne ht) hd hc hsl hst hdg kk H locs ls hZ hL hl hk hs
theorem r_mmax {index : Nat} {x z : Int32} (C : xC B G y cc nL ret d Mc Ms) (hlk : Cond.methodLink y.cls index Lib.Math.max.name ∈ lw_all) (hst9 : Cond.static Lib.Math.max.name ∈ lw_all) (hini : Cond.initialized "java/lang/Math" ∈ lw_all) (hcd : Cond.code Lib.Math.max.name Lib.Math.max.code 2 (some .int) ∈ lw_all) (hd : 1 ≤ d) (hc : k ≤ Mc) (hsl : n ≤ Ms) (hst : st.length ≤ 8) (hdg : decode cc pc = .ok (.invokestatic index, 3)) (kk : xV B G k n σ (pc + 3) lv (.int (jmax x z) :: st)) : xV B G k n σ pc lv (.int z :: .int x :: st) := by
  obtain ⟨p, l, e, R, s, m, args, below, meth, c, D, tA, HB, Q⟩ := G
  intro H locs ls hZ hL hl hk hs
  have hts := C.2.2.2.2.2.2.1
  have hR := C.2.2.2.2.2.2.2.2.1
  have hs2 : catOK st := (cat_tl (cat_tl hs))
  exact va_mmax C.1 C.2.1 hl.1.symm C.2.2.2.2.2.1 (hts _ hlk) (hts _ hst9) (hts _ hini) (hts _ hcd) (Nat.le_trans hd hR.1) (by have := hR.2.1; rw [cat_sum hs2]; omega) (by rw [hR.2.2.1]; exact hc) (by rw [hR.2.2.2]; exact hsl) hdg (kk H locs ls hZ hL hl hk (cat_int hs2))
theorem r_mmin {index : Nat} {x z : Int32} (C : xC B G y cc nL ret d Mc Ms) (hlk : Cond.methodLink y.cls index Lib.Math.min.name ∈ lw_all) (hst9 : Cond.static Lib.Math.min.name ∈ lw_all) (hini : Cond.initialized "java/lang/Math" ∈ lw_all) (hcd : Cond.code Lib.Math.min.name Lib.Math.min.code 2 (some .int) ∈ lw_all) (hd : 1 ≤ d) (hc : k ≤ Mc) (hsl : n ≤ Ms) (hst : st.length ≤ 8) (hdg : decode cc pc = .ok (.invokestatic index, 3)) (kk : xV B G k n σ (pc + 3) lv (.int (jmin x z) :: st)) : xV B G k n σ pc lv (.int z :: .int x :: st) := by
  obtain ⟨p, l, e, R, s, m, args, below, meth, c, D, tA, HB, Q⟩ := G
  intro H locs ls hZ hL hl hk hs
  have hts := C.2.2.2.2.2.2.1
  have hR := C.2.2.2.2.2.2.2.2.1
  have hs2 : catOK st := (cat_tl (cat_tl hs))
  exact va_mmin C.1 C.2.1 hl.1.symm C.2.2.2.2.2.1 (hts _ hlk) (hts _ hst9) (hts _ hini) (hts _ hcd) (Nat.le_trans hd hR.1) (by have := hR.2.1; rw [cat_sum hs2]; omega) (by rw [hR.2.2.1]; exact hc) (by rw [hR.2.2.2]; exact hsl) hdg (kk H locs ls hZ hL hl hk (cat_int hs2))
theorem r_mabs {index : Nat} {x : Int32} (C : xC B G y cc nL ret d Mc Ms) (hlk : Cond.methodLink y.cls index Lib.Math.abs.name ∈ lw_all) (hst9 : Cond.static Lib.Math.abs.name ∈ lw_all) (hini : Cond.initialized "java/lang/Math" ∈ lw_all) (hcd : Cond.code Lib.Math.abs.name Lib.Math.abs.code 1 (some .int) ∈ lw_all) (hd : 1 ≤ d) (hc : k ≤ Mc) (hsl : n ≤ Ms) (hst : st.length ≤ 8) (hdg : decode cc pc = .ok (.invokestatic index, 3)) (kk : xV B G k n σ (pc + 3) lv (.int (jabs x) :: st)) : xV B G k n σ pc lv (.int x :: st) := by
  obtain ⟨p, l, e, R, s, m, args, below, meth, c, D, tA, HB, Q⟩ := G
  intro H locs ls hZ hL hl hk hs
  have hts := C.2.2.2.2.2.2.1
  have hR := C.2.2.2.2.2.2.2.2.1
  have hs2 : catOK st := (cat_tl hs)
  exact va_mabs C.1 C.2.1 hl.1.symm C.2.2.2.2.2.1 (hts _ hlk) (hts _ hst9) (hts _ hini) (hts _ hcd) (Nat.le_trans hd hR.1) (by have := hR.2.1; rw [cat_sum hs2]; omega) (by rw [hR.2.2.1]; exact hc) (by rw [hR.2.2.2]; exact hsl) hdg (kk H locs ls hZ hL hl hk (cat_int hs2))
end XROWS9
