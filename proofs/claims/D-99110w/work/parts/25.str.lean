/-! STRINGS: Reader's two constants, String.indexOf(int) on them -/
set_option maxRecDepth 100000
def gHB (G : XG) : XH := match G with
  | (_, _, _, _, _, _, _, _, _, _, _, _, HB, _) => HB
def xMH (B : Nat) (y : MethodName) (cc : ByteArray) (nL : Nat) (ret : Option FieldType) (d : Nat) (av : XH → List Value) (σ : MM) (r : Option Value) : Prop :=
  ∀ (l : Launch) (D : va_G) (tA : Nat → ClassId) (HB : XH), Met l y (ws_ y cc nL ret) (rmD d 0 0) (va_Pc (av HB) (fun U => xZ D tA B HB σ U.heap ∧ xK B HB D tA U)) (fun _ _ oc t => oc = .returned r ∧ xZ D tA B HB σ t.heap) 0 0 (fun q => B < q)
theorem xMH.of {B : Nat} {y : MethodName} {cc : ByteArray} {nL : Nat} {ret : Option FieldType} {d : Nat} {av : XH → List Value} {σ : MM} {r : Option Value} (hy : plainName y.cls = true) (hl : ∀ HB, (av HB).length ≤ nL) (hc : ∀ HB, catOK (av HB))
    (body : ∀ G : XG, xC B G y cc nL ret d 0 0 → xEnd B G r σ 0 0 → xV B G 0 0 σ 0 (xLoc 0 (av (gHB G))) []) : xMH B y cc nL ret d av σ r := by
  intro l D tA HB
  refine Met.ofW (cc := cc) (maxL := nL) (ret := ret) hy rfl ?_
  intro p e s m args below meth c s₁ Bd hml hv
  obtain ⟨rfl, hZ, hK⟩ := hv
  have hts := atoms_spec (ws := ws_ y cc nL ret) Bd.pre
  have hl2 := lv_entry (av HB) (n := nL) (by rw [lg_len _ (hc HB)]; exact hl HB)
  rw [lg_entry_eq]
  have hb := body (p, l, e, rmD d 0 0, s, m, (av HB).toArray, below, meth, c, D, tA, HB, _) ⟨Bd.exec, Bd.bytes, Bd.returns, Bd.notSynchronized, hml, findClass_of_methodNamed Bd.named, fun w h => hts w (List.mem_cons_of_mem _ h), hK, ⟨Nat.le_refl _, Nat.le_refl _, rfl, rfl⟩, fun e => (name_of_methodNamed Bd.named Bd.method).1.trans e⟩ rfl
  refine hb s.heap [] _ hZ (fun q h => by cases h) ?_ (xLoc_ok (av HB) 0 (hc HB)) cat_nil
  show lv_has _ c.maxLocals (xLoc 0 (av HB))
  rw [hml, ← xLoc_eq (av HB) 0 (hc HB)]
  exact hl2
section XSTR
variable {B : Nat} {G : XG} {y : MethodName} {cc : ByteArray} {nL : Nat} {ret : Option FieldType} {d Mc Ms : Nat} {k n : Nat} {σ : MM} {pc : Nat} {lv : LV} {st : List Value}
theorem cat_ref {a : Nat} {st : List Value} (h : catOK st) : catOK (.ref a :: st) := cat_cons rfl h
theorem r_aloadR_n {q : Fin 4} {i a : Nat} (C : xC B G y cc nL ret d Mc Ms) (hdg : decode cc pc = .ok (.aload_n q, 1)) (hi : (q : Nat) = i) (hg : lvGet lv i = some (.ref a)) (kk : xV B G k n σ (pc + 1) lv (.ref a :: st)) : xV B G k n σ pc lv st := by
  obtain ⟨p, l, e, R, s, m, args, below, meth, c, D, tA, HB, Q⟩ := G
  intro H locs ls hZ hL hl hk hs
  exact lv_aload_n C.1 C.2.1 hdg hi (lvGet_at hl hg) (kk H locs ls hZ hL hl hk (cat_ref hs))
theorem x_old {D : va_G} {tA : Nat → ClassId} {HB : XH} {H : Heap} (hZ : xZ D tA B HB σ H) : ∀ a : Nat, a < HB.1.size → ¬ B < a → H[a]? = HB.1[a]? := fun a _ h => hZ.2.2.1 a (Nat.not_lt.mp h)
theorem r_gets {index : Nat} (C : xC B G y cc nL ret d Mc Ms) (hlk : Cond.fieldLink y.cls index "java/lang/String" "COMPACT_STRINGS" "Z" ∈ lw_all) (hdg : decode cc pc = .ok (.getstatic index, 3)) (kk : xV B G k n σ (pc + 3) lv (.int 1 :: st)) : xV B G k n σ pc lv st := by
  obtain ⟨p, l, e, R, s, m, args, below, meth, c, D, tA, HB, Q⟩ := G
  intro H locs ls hZ hL hl hk hs
  have hts := C.2.2.2.2.2.2.1
  obtain ⟨cf, kf, fi, f, a, cell, h1, h2, h3, h4, h5, h6, h7, h8⟩ := C.2.2.2.2.2.2.2.1.2.2.2.2.2.2.2
  exact W.gets C.1 C.2.1 C.2.2.2.2.2.1 (hts _ hlk) h1 h2 h3 h4 (by rw [x_old hZ a (Array.getElem?_eq_some_iff.mp h5).1 h8]; exact h5) (fun e => by rw [e] at h6; cases h6) h7 rfl hdg (kk H locs ls hZ hL hl hk (cat_int hs))
theorem r_scod {index i : Nat} (hi : i < 2) (C : xC B G y cc nL ret d Mc Ms) (hlk : Cond.fieldLink y.cls index "java/lang/String" "coder" "B" ∈ lw_all) (hdg : decode cc pc = .ok (.getfield index, 3)) (kk : xV B G k n σ (pc + 3) lv (.int 0 :: st)) : xV B G k n σ pc lv (.ref ((gHB G).2.1 i) :: st) := by
  obtain ⟨p, l, e, R, s, m, args, below, meth, c, D, tA, HB, Q⟩ := G
  intro H locs ls hZ hL hl hk hs
  have hts := C.2.2.2.2.2.2.1
  have hS := (C.2.2.2.2.2.2.2.1.2.2.2.2.1.1 i hi).2.1
  obtain ⟨cf, k9, i9, f, cell, h1, h2, h3, h4, h5, h6⟩ := hS.kept (x_old hZ)
  exact W.getf C.1 C.2.1 C.2.2.2.2.2.1 (hts _ hlk) h1 h2 h3 h4 h5 rfl rfl hdg (kk H locs ls hZ hL hl hk (cat_int (cat_tl hs)))
theorem r_sval {index i : Nat} (hi : i < 2) (C : xC B G y cc nL ret d Mc Ms) (hlk : Cond.fieldLink y.cls index "java/lang/String" "value" "[B" ∈ lw_all) (hdg : decode cc pc = .ok (.getfield index, 3)) (kk : xV B G k n σ (pc + 3) lv (.ref ((gHB G).2.2 i) :: st)) : xV B G k n σ pc lv (.ref ((gHB G).2.1 i) :: st) := by
  obtain ⟨p, l, e, R, s, m, args, below, meth, c, D, tA, HB, Q⟩ := G
  intro H locs ls hZ hL hl hk hs
  have hts := C.2.2.2.2.2.2.1
  have hS := (C.2.2.2.2.2.2.2.1.2.2.2.2.1.1 i hi).2.2.1
  obtain ⟨cf, k9, i9, f, cell, h1, h2, h3, h4, h5, h6⟩ := hS.kept (x_old hZ)
  exact W.getf C.1 C.2.1 C.2.2.2.2.2.1 (hts _ hlk) h1 h2 h3 h4 h5 rfl rfl hdg (kk H locs ls hZ hL hl hk (cat_ref (cat_tl hs)))
theorem r_slen {i : Nat} {v : Int32} (hi : i < 2) (hv : Int32.ofNat (sLen.getD i 0) = v) (C : xC B G y cc nL ret d Mc Ms) (hdg : decode cc pc = .ok (.arraylength, 1)) (kk : xV B G k n σ (pc + 1) lv (.int v :: st)) : xV B G k n σ pc lv (.ref ((gHB G).2.2 i) :: st) := by
  obtain ⟨p, l, e, R, s, m, args, below, meth, c, D, tA, HB, Q⟩ := G
  intro H locs ls hZ hL hl hk hs
  obtain ⟨cell, h1, h2, h3, h4, h5, h6, h7⟩ := (C.2.2.2.2.2.2.2.1.2.2.2.2.1.1 i hi).2.2.2.kept (x_old hZ)
  exact W.alen C.1 C.2.1 h1 h2 (h5.trans hv) rfl rfl hdg (kk H locs ls hZ hL hl hk (cat_int (cat_tl hs)))
theorem r_sbald {i j : Nat} {x : Int32} (hi : i < 2) (C : xC B G y cc nL ret d Mc Ms) (hj : ix x (sLen.getD i 0)) (hdg : decode cc pc = .ok (.baload, 1)) (kk : xV B G k n σ (pc + 1) lv (.int ((sByt.getD i []).getD x.toNatClampNeg 0) :: st)) : xV B G k n σ pc lv (.int x :: .ref ((gHB G).2.2 i) :: st) := by
  obtain ⟨p, l, e, R, s, m, args, below, meth, c, D, tA, HB, Q⟩ := G
  intro H locs ls hZ hL hl hk hs
  obtain ⟨cell, h1, h2, h3, h4, h5, h6, h7⟩ := (C.2.2.2.2.2.2.2.1.2.2.2.2.1.1 i hi).2.2.2.kept (x_old hZ)
  exact W.bald C.1 C.2.1 h1 h2 h3 (fun q => q.elim (fun q => hj.1 q) (fun q => by have := hj.2; omega)) (h6 _ hj.2) rfl rfl hdg (kk H locs ls hZ hL hl hk (cat_int (cat_tl (cat_tl hs))))
theorem r_ldcs {index i : Nat} (C : xC B G y cc nL ret d Mc Ms) (hy : y.cls = "OneCoin$Reader") (hi : (i = 0 ∧ index = 75) ∨ (i = 1 ∧ index = 129)) (hdg : decode cc pc = .ok (.ldc index, 2)) (kk : xV B G k n σ (pc + 2) lv (.ref ((gHB G).2.1 i) :: st)) : xV B G k n σ pc lv st := by
  obtain ⟨p, l, e, R, s, m, args, below, meth, c, D, tA, HB, Q⟩ := G
  intro H locs ls hZ hL hl hk hs
  have h9 := kk H locs ls hZ hL hl hk (cat_ref hs)
  rcases hi with ⟨rfl, rfl⟩ | ⟨rfl, rfl⟩
  · exact va_ldcS C.1 C.2.1 C.2.2.2.2.2.1 (by rw [hy]; exact C.2.2.2.2.2.2.2.1.2.2.2.2.2.1) hdg h9
  · exact va_ldcS C.1 C.2.1 C.2.2.2.2.2.1 (by rw [hy]; exact C.2.2.2.2.2.2.2.1.2.2.2.2.2.2.1) hdg h9
/-- a call through one of the Strings -/
theorem r_callX {y' : MethodName} {cc' : ByteArray} {nL' : Nat} {ret' : Option FieldType} {d' na : Nat} {As : List Value} {i index : Nat} {v : Int32} (hi : i < 2) (C : xC B G y cc nL ret d Mc Ms) (hM : xMH B y' cc' nL' ret' d' (fun HB => .ref (HB.2.1 i) :: As) σ (some (.int v))) (hna : As.length = na) (hy1 : y'.cls = "java/lang/String") (hyd : xYd y' na) (hws : GoodIn lw_all (wsV y.cls index "java/lang/String" y' (ws_ y' cc' nL' ret'))) (hd : d' + 1 ≤ d) (hnl : nL' ≤ 21) (hst : st.length ≤ 8) (hdg : decode cc pc = .ok (.invokevirtual index, 3)) (hc : k ≤ Mc) (hsl : n ≤ Ms)
    (kk : xV B G k n σ (pc + 3) lv (.int v :: st)) : xV B G k n σ pc lv (As.reverse ++ .ref ((gHB G).2.1 i) :: st) := by
  obtain ⟨p, l, e, R, s, m, args, below, meth, c, D, tA, HB, Q⟩ := G
  intro H locs ls hZ hL hl hk hs
  subst hna
  have hR := C.2.2.2.2.2.2.2.2.1
  have hM9 := hM l D tA HB
  have hs2 : catOK st := cat_tl (cat_app hs)
  have hrec : ∃ cell : Cell, H[HB.2.1 i]? = some cell ∧ cell.vm.isStatics = false ∧ s.vm.findClass "java/lang/String" = some cell.cls := by
    obtain ⟨cell, h1, h2, h3, -⟩ := (C.2.2.2.2.2.2.2.1.2.2.2.2.1.1 i hi).1.kept (x_old hZ)
    exact ⟨cell, h1, h2, h3⟩
  exact x_after (y' := y') (a9 := #[]) (mc := 0) (ms := 0) (r := some (.int v)) (fun w e => by cases e; rfl) (va_runV (As := As) (rest := st) (Ts := lw_all) ⟨C.1, C.2.1, C.2.2.2.2.1, C.2.2.2.2.2.1, C.2.2.2.2.2.2.1⟩ hM9 (cwV As.length C.2.2.2.2.2.2.1 hws rfl rfl rfl ⟨hy1, hyd⟩ ⟨Nat.le_trans hd hR.1, by have := hR.2.1; show 8 + (nL' + 11) + 40 * d' ≤ R.locals; omega⟩) ⟨x_blind, hrec, fun U hU hW => ⟨rfl, by rw [hU]; exact hZ, xK.moved hW C.2.2.2.2.2.2.2.1⟩⟩ rfl rfl (hl.1.trans C.2.2.2.2.1) rfl (lv_room (by rw [cat_sum hs2]; exact hst)) hdg ⟨by rw [hR.2.2.1]; exact hc, by rw [hR.2.2.2]; exact hsl⟩) hL hl hk hs2 kk
/-- a static call on one of the Strings' arrays -/
theorem r_callY {y' : MethodName} {cc' : ByteArray} {nL' : Nat} {ret' : Option FieldType} {d' na : Nat} {As : XH → List Value} {Av stk : List Value} {index : Nat} {v : Int32} (C : xC B G y cc nL ret d Mc Ms) (hM : xMH B y' cc' nL' ret' d' As σ (some (.int v))) (hAv : As (gHB G) = Av) (hstk : stk = Av.reverse ++ st) (hna : Av.length = na) (hyd : xYd y' na) (hws : GoodIn lw_all (va_wsS y.cls index y' (ws_ y' cc' nL' ret'))) (hd : d' + 1 ≤ d) (hnl : nL' ≤ 21) (hst : st.length ≤ 8) (hdg : decode cc pc = .ok (.invokestatic index, 3)) (hc : k ≤ Mc) (hsl : n ≤ Ms)
    (kk : xV B G k n σ (pc + 3) lv (.int v :: st)) : xV B G k n σ pc lv stk := by
  subst hstk
  obtain ⟨p, l, e, R, s, m, args, below, meth, c, D, tA, HB, Q⟩ := G
  intro H locs ls hZ hL hl hk hs
  have hAv : As HB = Av := hAv
  subst hAv
  subst hna
  have hR := C.2.2.2.2.2.2.2.2.1
  have hM9 := hM l D tA HB
  have hs2 : catOK st := cat_app hs
  exact x_after (y' := y') (a9 := #[]) (mc := 0) (ms := 0) (r := some (.int v)) (fun w e => by cases e; rfl) (va_runS (As := As HB) (rest := st) (Ts := lw_all) ⟨C.1, C.2.1, C.2.2.2.2.1, C.2.2.2.2.2.1, C.2.2.2.2.2.2.1⟩ hM9 (va_cwS (As HB).length C.2.2.2.2.2.2.1 hws rfl rfl rfl hyd ⟨Nat.le_trans hd hR.1, by have := hR.2.1; show 8 + (nL' + 11) + 40 * d' ≤ R.locals; omega⟩) ⟨x_blind, fun U hU hW => ⟨rfl, by rw [hU]; exact hZ, xK.moved hW C.2.2.2.2.2.2.2.1⟩⟩ rfl rfl (hl.1.trans C.2.2.2.2.1) rfl (lv_room (by rw [cat_sum hs2]; exact hst)) hdg ⟨by rw [hR.2.2.1]; exact hc, by rw [hR.2.2.2]; exact hsl⟩) hL hl hk hs2 kk
end XSTR
