/-! ROWS: calls of inherited and of overriding methods; arrays of references -/
def xCU (own : String) (index : Nat) (y' : MethodName) (cc' : ByteArray) (nL' : Nat) (ret' : Option FieldType) (tg N na : Nat) : Prop := tg < 15 ∧ nL' ≤ 21 ∧ ∃ (q : vw_C) (x : MethodName) (owner : String), mCl[tg]? = some q ∧ GoodIn lw_all (va_wsU own index q.1 owner x y' (ws_ y' cc' nL' ret')) ∧ (owner ≠ "java/lang/invoke/MethodHandle" ∧ owner ≠ "java/lang/invoke/VarHandle" ∧ (parseMethodDescriptor x.desc).map (fun d => d.parameters.length) = some na) ∧ Cond.declares ⟨owner, x.name, x.desc⟩ ∈ lw_nest
def xCU' (own : String) (index : Nat) (y' : MethodName) (cc' : ByteArray) (nL' : Nat) (ret' : Option FieldType) (tg N na : Nat) : Prop := tg < 15 ∧ nL' ≤ 21 ∧ ∃ (q : vw_C) (x : MethodName) (owner : String), mCl[tg]? = some q ∧ GoodIn lw_all (va_wsU own index q.1 owner x y' (ws_ y' cc' nL' ret')) ∧ (owner ≠ "java/lang/invoke/MethodHandle" ∧ owner ≠ "java/lang/invoke/VarHandle" ∧ (parseMethodDescriptor x.desc).map (fun d => d.parameters.length) = some na) ∧ y' = ⟨owner, x.name, x.desc⟩
theorem lw_U {own : String} {idx : Nat} {C owner : String} {x y : MethodName} {b : ByteArray} {L : Nat} {r : Option FieldType} (h1 : Cond.methodLink own idx x ∈ lw_all) (h2 : Cond.sameMethod x.cls owner x.name x.desc ∈ lw_all) (h3 : Cond.selects C x y ∈ lw_all) (h4 : Cond.instanceMethod y ∈ lw_all) (h5 : Cond.initialized y.cls ∈ lw_all) (h6 : Cond.code y b L r ∈ lw_all) : GoodIn lw_all (va_wsU own idx C owner x y (ws_ y b L r)) := by
  refine lw_app ?_ (lw_meth h6)
  intro w hw
  simp only [List.mem_cons, List.not_mem_nil, or_false] at hw
  rcases hw with e | e | e | e | e
  · rw [e]; exact h1
  · rw [e]; exact h2
  · rw [e]; exact h3
  · rw [e]; exact h4
  · rw [e]; exact h5
theorem ten_c : (10 : Int32).toNatClampNeg = 10 := by decide
theorem fill_outer (cA : ClassId) (h0 : Nat) (f : Nat → Value) (hf : ∀ j, j < 10 → f j = .ref (h0 + 1 + j)) : Jvm.Free.Multi.outerC cA 10 h0 10 = arrV cA 10 f := by
  have key : ∀ i, i ≤ 10 → Jvm.Free.Multi.outerC cA 10 h0 i = arrV cA 10 (fun j => if j < i then f j else .null) := by
    intro i
    induction i with
    | zero =>
      intro _
      show ({ cls := cA, slots := Array.replicate 10 .null, vm := .none } : Cell) = _
      rw [arrV_new]
      rfl
    | succ i ih =>
      intro hi
      show (Jvm.Free.Multi.outerC cA 10 h0 i).setSlot i (.ref (h0 + 1 + i)) = _
      rw [ih (by omega), arrV_store]
      congr 1
      funext j
      show (if j = i then Value.ref (h0 + 1 + i) else (if j < i then f j else .null)) = if j < i + 1 then f j else .null
      by_cases hj : j = i
      · subst hj
        rw [if_pos rfl, if_pos (Nat.lt_succ_self j), hf j (by omega)]
      · rw [if_neg hj]
        by_cases h2 : j < i
        · rw [if_pos h2, if_pos (by omega)]
        · rw [if_neg h2, if_neg (by omega)]
  rw [key 10 (Nat.le_refl _)]
  unfold arrV
  congr 2
  funext j
  exact if_pos j.isLt
theorem fill_inn (comp : ClassId) : Jvm.Free.Multi.innerC comp 10 (defaultValue .int) = arrV comp 10 (fun _ => .int 0) := by
  rw [← arrV_new]
  rfl
section XROWS7
variable {B : Nat} {G : XG} {y : MethodName} {cc : ByteArray} {nL : Nat} {ret : Option FieldType} {d Mc Ms : Nat} {k n : Nat} {σ : MM} {pc : Nat} {lv : LV} {st : List Value}
theorem x_cU {y' : MethodName} {cc' : ByteArray} {nL' : Nat} {ret' : Option FieldType} {d' mc ms na : Nat} {As : List Value} {b tg N index : Nat} {r : Option Value} {σ' : MM} (C : xC B G y cc nL ret d Mc Ms) (cs : xCU y.cls index y' cc' nL' ret' tg N na ∨ xCU' y.cls index y' cc' nL' ret' tg N na) (hna : As.length = na) (hM : xMA B y' cc' nL' ret' d' mc ms (rv B b :: As) σ r σ') (hz : mT σ b = (tg, N)) (hd : d' + 1 ≤ d) (hc : k + mc ≤ Mc) (hsl : n + ms ≤ Ms) (hst : st.length ≤ 8) (hr : ∀ v, r = some v → v.category = 1) (hdg : decode cc pc = .ok (.invokevirtual index, 3))
    (kk : xV B G (k + mc) (n + ms) σ' (pc + 3) lv (r.toList ++ st)) : xV B G k n σ pc lv (As.reverse ++ rv B b :: st) := by
  obtain ⟨p, l, e, R, s, m, args, below, meth, c, D, tA, HB, Q⟩ := G
  intro H locs ls hZ hL hl hk hs
  have hts := C.2.2.2.2.2.2.1
  have hR := C.2.2.2.2.2.2.2.2.1
  have hM9 := hM l D tA HB
  have hs2 : catOK st := cat_tl (cat_app hs)
  rcases cs with ⟨h15, hnl, q, x, owner, hq, hG, hd9, hdecl⟩ | ⟨h15, hnl, q, x, owner, hq, hG, hd9, hyx⟩
  · have h99 : (mT σ b).1 ≠ 99 := by rw [hz]; show tg ≠ 99; omega
    have hb0 := hZ.ne h99
    rw [rv_pos hb0] at hM9 ⊢
    refine x_after (y' := y') (a9 := #[]) hr (va_runU (As := As) (rest := st) (Ts := lw_all) ⟨C.1, C.2.1, C.2.2.2.2.1, C.2.2.2.2.2.1, hts⟩ hM9 (va_cwA na hts hG rfl rfl rfl (C.2.2.2.2.2.2.2.1.2.1 _ hdecl) hd9 ⟨Nat.le_trans hd hR.1, by have := hR.2.1; show 8 + (nL' + 11) + 40 * d' ≤ R.locals; omega⟩) ⟨x_blind, x_recv C hZ hz h15 hq, fun U hU hW => ⟨rfl, by rw [hU]; exact hZ, xK.moved hW C.2.2.2.2.2.2.2.1⟩⟩ rfl hna (hl.1.trans C.2.2.2.2.1) rfl (lv_room (by rw [cat_sum hs2]; exact hst)) hdg ⟨by rw [hR.2.2.1]; exact hc, by rw [hR.2.2.2]; exact hsl⟩) hL hl hk hs2 kk
  · have h99 : (mT σ b).1 ≠ 99 := by rw [hz]; show tg ≠ 99; omega
    have hb0 := hZ.ne h99
    rw [rv_pos hb0] at hM9 ⊢
    refine x_after (y' := y') (a9 := #[]) hr (va_runU (As := As) (rest := st) (Ts := lw_all) ⟨C.1, C.2.1, C.2.2.2.2.1, C.2.2.2.2.2.1, hts⟩ hM9 (va_cwU na hts hG rfl rfl rfl hyx hd9 ⟨Nat.le_trans hd hR.1, by have := hR.2.1; show 8 + (nL' + 11) + 40 * d' ≤ R.locals; omega⟩) ⟨x_blind, x_recv C hZ hz h15 hq, fun U hU hW => ⟨rfl, by rw [hU]; exact hZ, xK.moved hW C.2.2.2.2.2.2.2.1⟩⟩ rfl hna (hl.1.trans C.2.2.2.2.1) rfl (lv_room (by rw [cat_sum hs2]; exact hst)) hdg ⟨by rw [hR.2.2.1]; exact hc, by rw [hR.2.2.2]; exact hsl⟩) hL hl hk hs2 kk
/-- a call of a method that one of several classes gives: which, the callee's mirror says -/
def xDsp (B : Nat) (own : String) (index na d' : Nat) (σ : MM) (b : Nat) (As : List Value) (r : Option Value) (σ' : MM) : Prop := ∃ (y' : MethodName) (cc' : ByteArray) (nL' : Nat) (ret' : Option FieldType) (tg N : Nat), (xCU own index y' cc' nL' ret' tg N na ∨ xCU' own index y' cc' nL' ret' tg N na) ∧ mT σ b = (tg, N) ∧ xMA B y' cc' nL' ret' d' 0 0 (rv B b :: As) σ r σ'
theorem r_callUI {α : Type} {d' : Nat} {As : List Value} {b index na : Nat} {x : Option (Int32 × MM)} {f : Int32 → MM → Option α} {r : α} (C : xC B G y cc nL ret d Mc Ms) (h : bq x f = some r) (hM : ∀ (v : Int32) (σ' : MM), x = some (v, σ') → xDsp B y.cls index na d' σ b As (some (.int v)) σ') (hd : d' + 1 ≤ d) (hst : st.length ≤ 8) (hdg : decode cc pc = .ok (.invokevirtual index, 3)) (kk : ∀ (v : Int32) (σ' : MM), f v σ' = some r → xV B G k n σ' (pc + 3) lv (.int v :: st)) (hna : As.length = na := by rfl) (hc : k ≤ Mc := by first | exact Nat.zero_le _ | exact Nat.le_of_ble_eq_true rfl) (hsl : n ≤ Ms := by first | exact Nat.zero_le _ | exact Nat.le_of_ble_eq_true rfl) : xV B G k n σ pc lv (As.reverse ++ rv B b :: st) := by
  obtain ⟨v, σ', e, h⟩ := r_bq h
  obtain ⟨y', cc', nL', ret', tg, N, cs, hz, hm⟩ := hM v σ' e
  exact x_cU C cs hna hm hz hd hc hsl hst (fun w e => by cases e; rfl) hdg (kk v σ' h)
theorem r_callUV {α : Type} {d' : Nat} {As : List Value} {b index na : Nat} {x : Option MM} {f : MM → Option α} {r : α} (C : xC B G y cc nL ret d Mc Ms) (h : x.bind f = some r) (hM : ∀ (σ' : MM), x = some σ' → xDsp B y.cls index na d' σ b As none σ') (hd : d' + 1 ≤ d) (hst : st.length ≤ 8) (hdg : decode cc pc = .ok (.invokevirtual index, 3)) (kk : ∀ (σ' : MM), f σ' = some r → xV B G k n σ' (pc + 3) lv st) (hna : As.length = na := by rfl) (hc : k ≤ Mc := by first | exact Nat.zero_le _ | exact Nat.le_of_ble_eq_true rfl) (hsl : n ≤ Ms := by first | exact Nat.zero_le _ | exact Nat.le_of_ble_eq_true rfl) : xV B G k n σ pc lv (As.reverse ++ rv B b :: st) := by
  obtain ⟨σ', e, h⟩ := r_bm h
  obtain ⟨y', cc', nL', ret', tg, N, cs, hz, hm⟩ := hM σ' e
  exact x_cU C cs hna hm hz hd hc hsl hst (fun w e => by cases e) hdg (kk σ' h)
theorem r_anew {index q : Nat} {v : Int32} {N : Nat} {En : String} (C : xC B G y cc nL ret d Mc Ms) (hq : q < 2) (hEn : En = if q = 0 then "OneCoin$Sum" else "OneCoin$Condition") (hlk : Cond.classLink y.cls index En ∈ lw_all) (hdg : decode cc pc = .ok (.anewarray index, 3)) (hv : ¬ v < 0) (hN : v.toNatClampNeg = N) (hNb : N ≤ 100000) (hc : k + 1 ≤ Mc) (hsl : n + N ≤ Ms) (kk : xV B G (k + 1) (n + N) (nO σ (23 + q, N)) (pc + 3) lv (rv B (mN σ + 1) :: st)) : xV B G k n σ pc lv (.int v :: st) := by
  obtain ⟨p, l, e, R, s, m, args, below, meth, c, D, tA, HB, Q⟩ := G
  intro H locs ls hZ hL hl hk hs
  have hts := C.2.2.2.2.2.2.1
  have hR := C.2.2.2.2.2.2.2.2.1
  have hO := C.2.2.2.2.2.2.2.1.2.2.2.1
  have hover : va_AO En s := by
    rw [hEn]
    rcases (show q = 0 ∨ q = 1 by omega) with rfl | rfl
    · exact hO.1
    · exact hO.2.1
  have hT : (mTys tA)[3 + q]? = some (tA (3 + q), .object En) := by
    rw [hEn]
    rcases (show q = 0 ∨ q = 1 by omega) with rfl | rfl <;> rfl
  refine W.anew C.1 C.2.1 C.2.2.2.2.2.1 (hts _ hlk) (va_AO.use hover) rfl hdg rfl hv (by rw [hN]; exact Nat.le_trans (Nat.mul_le_mul_right 4 hNb) (Nat.le_of_ble_eq_true rfl)) (by rw [hR.2.2.1]; exact hc) (by rw [hR.2.2.2, hN]; exact hsl) fun cA kA comp f1 f2 f3 f4 => ?_
  rw [hN]
  generalize hH1 : H.push ({ cls := cA, slots := Array.replicate N .null, vm := .none } : Cell) = H1
  have z1 : H1.size = H.size + 1 := by rw [← hH1, Array.size_push]
  have e1 : H1[H.size]? = some (arrV cA N (fun _ => .null)) := by rw [← hH1, Array.getElem?_push_size, ← arrV_new]
  have o1 : ∀ q : Nat, q < H.size → H1[q]? = H[q]? := fun q hq => by rw [← hH1, Array.getElem?_push, if_neg (Nat.ne_of_lt hq)]
  have h1 : xZ D tA B HB (nO σ (23 + q, N)) H1 := by
    refine hZ.push z1 o1 ?_
    obtain ⟨-, kA2, comp2, -, -, -, g4⟩ := C.2.2.2.2.2.2.2.1.1.2 _ _ hT
    have e2 : tA (3 + q) = cA := Option.some.inj (g4.symm.trans f1)
    have e3 : xE tA B (nO σ (23 + q, N)) (mN σ + 1) = .inl (tA (3 + q), N, .inr (.inr (.inr (.inr (fun _ => none))))) := by
      have e5 := xE_p (tA := tA) (B := B) (σ := nO σ (23 + q, N)) (a := mN σ + 1) (n := N) (k := 1 + q) (by rw [nO_T]; congr 1; omega)
      rw [e5, show 2 + (1 + q) = 3 + q by omega]
      congr 7
      funext j
      rw [nO_P]; rfl
    rw [e3]
    show H1[H.size]? = some (vp_cell _ _)
    rw [vp_cell_q, e2]
    exact e1
  have h2 := kk H1 locs ls h1 hL hl hk (cat_rv (cat_tl hs))
  rw [rv_pos (by omega), show B + (mN σ + 1) = H.size by have := hZ.2.1; omega] at h2
  exact h2
/-- into an array of Sums or Conditions -/
theorem r_aast {α : Type} {a u q : Nat} {i : Int32} {f : MM → Option α} {r : α} (hq : q < 2) (C : xC B G y cc nL ret d Mc Ms) (hca : (Cond.castable (if q = 0 then "OneCoin$Row" else "OneCoin$Some") (if q = 0 then "OneCoin$Sum" else "OneCoin$Condition")) ∈ lw_nest) (hdg : decode cc pc = .ok (.aastore, 1)) (h : (sP σ a (23 + q) i u).bind f = some r) (kk : ∀ σ', f σ' = some r → xV B G k n σ' (pc + 1) lv st) : xV B G k n σ pc lv (rv B u :: .int i :: rv B a :: st) := by
  obtain ⟨p, l, e, R, s, m, args, below, meth, c, D, tA, HB, Q⟩ := G
  intro H locs ls hZ hL hl hk hs
  unfold sP at h
  by_cases hz : ¬ ((mT σ a).1 = 23 + q ∧ ix i (mT σ a).2 ∧ (u = 0 ∨ (mT σ u).1 = (if 23 + q = 23 then 7 else 10)))
  · rw [if_neg hz] at h; cases h
  have hz := Classical.not_not.mp hz
  rw [if_pos hz] at h
  have h99 : (mT σ a).1 ≠ 99 := by rw [hz.1]; omega
  have hP := hZ.at h99
  rw [xE_p (k := 1 + q) (n := (mT σ a).2) (Prod.ext (by rw [hz.1]; show 23 + q = 22 + (1 + q); omega) rfl)] at hP
  have hT : (mTys tA)[2 + (1 + q)]? = some (tA (2 + (1 + q)), .object (if q = 0 then "OneCoin$Sum" else "OneCoin$Condition")) := by
    rcases (show q = 0 ∨ q = 1 by omega) with rfl | rfl <;> rfl
  have key : ∀ H1 : Heap, H1[B + a]? = some ((vp_cell (tA (2 + (1 + q))) ((mT σ a).2, .inr (.inr (.inr (.inr (fun j => op_ B (mP σ a j))))))).setSlot i.toNatClampNeg (rv B u)) → H1.size = H.size → (∀ q : Nat, q ≠ B + a → H1[q]? = H[q]?) → W p l e R s m args below meth c H1 (locs ++ [⟨B + a, i.toNatClampNeg⟩]) k n Q (F0 m (pc + 1) ls st) := by
    intro H1 e z oq
    refine kk _ h H1 _ ls ?_ (x_locs hZ h99 hL) hl hk (cat_tl (cat_tl (cat_tl hs)))
    refine hZ.upd h99 rfl rfl (fun x hx => xE_wP_ne hx) z oq ?_
    rw [xE_p (σ := wP σ a i.toNatClampNeg u) (k := 1 + q) (n := (mT σ a).2) (Prod.ext (by show (mT σ a).1 = 22 + (1 + q); rw [hz.1]; omega) rfl)]
    show H1[B + a]? = some (vp_cell _ _)
    rw [e, vp_cell_q, vp_cell_q, arrV_store]
    congr 2
    funext x
    rw [mP_wP]
    by_cases hx : x = i.toNatClampNeg
    · subst hx
      simp [updV, rv]
    · simp [updV, hx]
  rw [rv_pos (hZ.ne h99)]
  by_cases hu : u = 0
  · subst hu
    exact va_WaastN C.1 C.2.1 (hP 0 _ rfl) ((C.2.2.2.2.2.2.2.1.1.2 _ _ hT).1 _ (fun j => va_rf (op_ B (mP σ a j)))) (fun h => by cases h) (by show ¬ (i < 0 ∨ (arrV _ _ _).slots.size ≤ _); rw [arrV_size]; exact hz.2.1.vp) rfl rfl hdg key
  · have hu9 : (mT σ u).1 = (if 23 + q = 23 then 7 else 10) := hz.2.2.resolve_left hu
    have h15 : (mT σ u).1 < 15 := by rw [hu9]; split <;> decide
    have hPu := hZ.at (a := u) (by omega)
    rw [xE_o (σ := σ) (a := u) (tg := (mT σ u).1) (n := (mT σ u).2) rfl h15] at hPu
    obtain ⟨r', hr', cellV, g1, g2, g3, -⟩ := hPu 0 _ rfl
    have hr9 : r'.1 = (if q = 0 then "OneCoin$Row" else "OneCoin$Some") := by
      have hr' : mCl[(mT σ u).1]? = some r' := hr'
      rw [hu9] at hr'
      rcases (show q = 0 ∨ q = 1 by omega) with rfl | rfl
      · cases hr'; rfl
      · cases hr'; rfl
    have hcls := (C.2.2.2.2.2.2.2.1.1.1 _ r' hr').2
    obtain ⟨kA, comp, k1, k2, k3, -⟩ := (C.2.2.2.2.2.2.2.1.1.2 _ _ hT).2
    obtain ⟨kE, hkE, -⟩ := Vm.findClass_spec k3
    obtain ⟨c0, t1, f1, f2, f3⟩ := Cond.castable_spec (va_Nw.use (A := args) rfl (C.2.2.2.2.2.2.2.1.2.1 _ hca))
    rw [← hr9] at f1
    cases hcls.1.symm.trans f1
    cases k3.symm.trans f2
    obtain ⟨kC, hkC, -⟩ := hcls.2
    rw [rv_pos hu] at key ⊢
    exact W.aast C.1 C.2.1 (hP 0 _ rfl) (fun q h => by cases h) (fun h => by cases h) k1 k2 rfl hkE ⟨hz.2.1.1, by show _ < (arrV _ _ _).slots.size; rw [arrV_size]; exact hz.2.1.2⟩ g1 (fun q h => by rw [g3] at h; cases h) (by rw [g2]; exact hkC) (by rw [g2]; exact f3) rfl rfl hdg key
end XROWS7
theorem x_multiZ {D : va_G} {tA : Nat → ClassId} {B : Nat} {HB : XH} {H H1 : Heap} {σ : MM} {cA comp : ClassId} (hZ : xZ D tA B HB σ H) (eA : tA 2 = cA) (eI : tA 0 = comp) (f1 : H1.size = H.size + 1 + 10) (f2 : H1[H.size]? = some (Jvm.Free.Multi.outerC cA 10 H.size 10)) (fo : ∀ a : Nat, a < H.size → H1[a]? = H[a]?) (fi : ∀ j : Nat, j < 10 → H1[H.size + 1 + j]? = some (Jvm.Free.Multi.innerC comp 10 (defaultValue .int))) : xZ D tA B HB (nG σ) H1 := by
  have hsz : H.size = B + 1 + mN σ := hZ.2.1
  have eN : mN (nG σ) = mN σ + 11 := rfl
  generalize hz : H.size = z at *
  refine ⟨hZ.1, by rw [f1, eN]; omega, fun q hq => (fo q (by omega)).trans (hZ.2.2.1 q hq), fun x hx => ?_⟩
  rw [eN]
  by_cases h1 : x = mN σ + 1
  · subst h1
    refine ⟨by omega, by omega, ?_⟩
    have eT : mT (nG σ) (mN σ + 1) = (22 + 0, 10) := if_pos rfl
    rw [xE_p eT]
    show H1[B + (mN σ + 1)]? = some (vp_cell (tA 2) _)
    rw [show B + (mN σ + 1) = z by omega, f2, vp_cell_q, eA]
    refine congrArg some (fill_outer cA z (fun j => va_rf (op_ B (mP (nG σ) (mN σ + 1) j))) (fun j hj => ?_))
    have e7 : mP (nG σ) (mN σ + 1) j = mN σ + 2 + j := if_pos rfl
    show va_rf (op_ B (mP (nG σ) (mN σ + 1) j)) = _
    rw [e7]
    have e8 := rv_pos (B := B) (p := mN σ + 2 + j) (by omega)
    unfold rv at e8
    rw [e8, show B + (mN σ + 2 + j) = z + 1 + j by omega]
  · by_cases h2 : mN σ < x ∧ x ≤ mN σ + 11
    · refine ⟨by omega, h2.2, ?_⟩
      have eT : mT (nG σ) x = (20, 10) := (if_neg h1).trans (if_pos h2)
      rw [xE_i eT]
      show H1[B + x]? = some (vp_cell (tA 0) _)
      have e8 := fi (x - (mN σ + 2)) (by omega)
      rw [show z + 1 + (x - (mN σ + 2)) = B + x by omega] at e8
      have eI0 : mI (nG σ) x = fun _ => 0 := by funext j; exact if_pos h2
      rw [e8, vp_cell_i, eI, eI0]
      exact congrArg some (fill_inn comp)
    · have eT : mT (nG σ) x = mT σ x := (if_neg h1).trans (if_neg h2)
      rw [eT] at hx
      have h3 := hZ.2.2.2 x hx
      have eI9 : mI (nG σ) x = mI σ x := by funext j; exact if_neg h2
      have eP9 : mP (nG σ) x = mP σ x := by funext j; exact (if_neg h1).trans (if_neg h2)
      have eV9 : xVal B (nG σ) x = xVal B σ x := by funext tg j; unfold xVal; rw [eI9, eP9]
      have eE9 : xE tA B (nG σ) x = xE tA B σ x := by unfold xE; rw [eT, eI9, eP9, eV9]
      refine ⟨h3.1, by omega, ?_⟩
      rw [eE9]
      exact h3.2.2.kept (fo _ (by show B + x < z; omega))
section XROWS8
variable {B : Nat} {G : XG} {y : MethodName} {cc : ByteArray} {nL : Nat} {ret : Option FieldType} {d Mc Ms : Nat} {k n : Nat} {σ : MM} {pc : Nat} {lv : LV} {st : List Value}
/-- new int[10][10] -/
theorem r_multi {index : Nat} (C : xC B G y cc nL ret d Mc Ms) (hlk : Cond.classLink y.cls index "[[I" ∈ lw_all) (harr : Cond.arrayClass .int ∈ lw_all) (hdg : decode cc pc = .ok (.multianewarray index 2, 4)) (hc : k + 11 ≤ Mc) (hsl : n + 110 ≤ Ms) (kk : xV B G (k + 11) (n + 110) (nG σ) (pc + 4) lv (rv B (mN σ + 1) :: st)) : xV B G k n σ pc lv (.int 10 :: .int 10 :: st) := by
  obtain ⟨p, l, e, R, s, m, args, below, meth, c, D, tA, HB, Q⟩ := G
  intro H locs ls hZ hL hl hk hs
  have hts := C.2.2.2.2.2.2.1
  have hR := C.2.2.2.2.2.2.2.2.1
  have hO := C.2.2.2.2.2.2.2.1.2.2.2.1
  have e9 : "[" ++ (FieldType.array .int).toString = "[[I" := by decide +kernel
  rw [← e9] at hlk
  have hb1 : 10 * 4 ≤ 536870912 := Nat.le_of_ble_eq_true rfl
  have hb3 : 10 ≤ 536870912 := Nat.le_of_ble_eq_true rfl
  have hcb : componentBytes .int ≤ 4 := Nat.le_of_ble_eq_true rfl
  have hb2 : 10 * componentBytes .int ≤ 536870912 := Nat.le_trans (Nat.mul_le_mul_left 10 hcb) hb1
  intro T hT X
  have hb := C.2.1
  subst hb
  obtain ⟨vm₁, cA, comp, hW, f1, f2, hAo, hAi, X', st9⟩ := X.multianewarray2F (g := F0 m pc ls (.int 10 :: .int 10 :: st)) (own := y.cls) (index := index) (ty := .int) C.1 C.2.2.2.2.2.1 (hts _ hlk) hO.2.2 (hts _ harr) rfl hdg (n := 10) (k := 10) (rest := st) rfl (by decide) (by decide) (by rw [ten_c]; exact hb1) (by rw [ten_c]; exact hb2) (by rw [ten_c]; exact hb3) rfl rfl (by rw [hR.2.2.1, ten_c]; exact hc) (by rw [hR.2.2.2, ten_c]; exact hsl)
  rw [ten_c] at X' st9
  generalize hT' : Jvm.Free.Multi.fill (T.setVm vm₁) cA comp 10 10 (defaultValue .int) 10 = T' at X' st9
  have hTs : (T.setVm vm₁).heap = T.heap := rfl
  have ff := Jvm.Free.Multi.fill_facts (T.setVm vm₁) cA comp 10 10 (defaultValue .int) 10
  have fo := fun (a : Addr) (ha : a < T.heap.size) => Jvm.Free.Multi.fill_old (T.setVm vm₁) cA comp 10 10 (defaultValue .int) (a := a) ha 10
  have fi := Jvm.Free.Multi.fill_inner (T.setVm vm₁) cA comp 10 10 (defaultValue .int) 10
  rw [hT', hTs, hT] at ff fi
  rw [hT', hTs, hT] at fo
  have hg2 := (C.2.2.2.2.2.2.2.1.1.2 2 (tA 2, .array .int) rfl).2
  have hg0 := (C.2.2.2.2.2.2.2.1.1.2 0 (tA 0, .int) rfl).2
  have eA : tA 2 = cA := Option.some.inj (hg2.symm.trans f1)
  have eI : tA 0 = comp := Option.some.inj (hg0.symm.trans f2)
  have hsz : H.size = B + 1 + mN σ := hZ.2.1
  have h1 : xZ D tA B HB (nG σ) T'.heap := x_multiZ hZ eA eI ff.1 ff.2.1 fo fi
  have h2 := kk T'.heap locs ls h1 hL hl hk (cat_rv (cat_tl (cat_tl hs)))
  rw [rv_pos (by omega), show B + (mN σ + 1) = H.size by omega] at h2
  obtain ⟨t2, a1, b1⟩ := h2 T' rfl X'
  rw [← hT] at a1
  exact ⟨t2, st9 t2 a1, b1⟩

end XROWS8
