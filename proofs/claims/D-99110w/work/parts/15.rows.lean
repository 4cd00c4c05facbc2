/-! ROWS: new cells, calls, switches, joins -/
/-- what is to be known of a class to make an object of it -/
def xCl (tg N : Nat) (Cn : String) : Prop := ∃ q : vw_C, mCl[tg]? = some q ∧ q.1 = Cn ∧ q.2.2 = N ∧ tg < 15 ∧ (∀ w ∈ u_ws q.1 q.2.1 q.2.2, w ∈ lw_all) ∧ (∀ j, j < N → parseFieldDescriptor (q.2.1 j).2.2.1 = some (mTy tg j)) ∧ (∀ j, j < N → defaultValue (mTy tg j) = if (mTy tg j).isReference = true then .null else .int 0)
def xYd (y : MethodName) (n : Nat) : Prop := y.cls ≠ "java/lang/invoke/MethodHandle" ∧ y.cls ≠ "java/lang/invoke/VarHandle" ∧ (parseMethodDescriptor y.desc).map (fun d => d.parameters.length) = some n
section XROWS5
variable {B : Nat} {G : XG} {y : MethodName} {cc : ByteArray} {nL : Nat} {ret : Option FieldType} {d Mc Ms : Nat} {k n : Nat} {σ : MM} {pc : Nat} {lv : LV} {st : List Value}
theorem r_new {index tg N : Nat} {Cn : String} (C : xC B G y cc nL ret d Mc Ms) (hK : xCl tg N Cn) (hlk : Cond.classLink y.cls index Cn ∈ lw_all) (hins : Cond.instantiable Cn N ∈ lw_all) (hini : Cond.initialized Cn ∈ lw_all) (hdg : decode cc pc = .ok (.new index, 3)) (hc : k + 1 ≤ Mc) (hsl : n + N ≤ Ms) (kk : xV B G (k + 1) (n + N) (nO σ (tg, N)) (pc + 3) lv (rv B (mN σ + 1) :: st)) : xV B G k n σ pc lv st := by
  obtain ⟨p, l, e, R, s, m, args, below, meth, c, D, tA, HB, Q⟩ := G
  intro H locs ls hZ hL hl hk hs
  obtain ⟨q, hq, hn, hN, h15, hin, hty, hdf⟩ := hK
  subst hn; subst hN
  have hts := C.2.2.2.2.2.2.1
  have hR := C.2.2.2.2.2.2.2.2.1
  have hKn := C.2.2.2.2.2.2.2.1.1.1 tg _ hq
  refine W.newcK (n := q.2.2) C.1 C.2.1 C.2.2.2.2.2.1 (hts _ hlk) (hts _ hins) (hts _ hini) rfl hdg (by rw [hR.2.2.1]; exact hc) (by rw [hR.2.2.2]; exact hsl) hKn.2.1 rfl fun H1 kC hkC e1 z1 o1 => ?_
  have h1 : xZ D tA B HB (nO σ (tg, q.2.2)) H1 := by
    refine hZ.push z1 o1 ?_
    rw [xE_o (nO_T _ _) h15]
    refine ⟨q, hq, (u_born (mTy tg) hts hin hKn hkC e1 hty).to (fun j hj => ?_)⟩
    rw [vp_V_map hj, hdf j hj]
    unfold xVal
    rw [nO_I, nO_P]
    rfl
  have h2 := kk H1 locs ls h1 hL hl hk (cat_rv hs)
  rw [rv_pos (by omega), show B + (mN σ + 1) = H.size by have := hZ.2.1; omega] at h2
  exact h2
theorem x_newa {t : Nat} {atype : ArrayType} {v : Int32} {N : Nat} (C : xC B G y cc nL ret d Mc Ms) (ht : t < 2) (hat : newarray.typeOf atype = (if t = 0 then .int else .byte)) (harr : Cond.arrayClass (newarray.typeOf atype) ∈ lw_all) (hdg : decode cc pc = .ok (.newarray atype, 2)) (hv : ¬ v < 0) (hN : v.toNatClampNeg = N) (hNb : N ≤ 100000) (hc : k + 1 ≤ Mc) (hsl : n + N ≤ Ms) (kk : xV B G (k + 1) (n + N) (nO σ (20 + t, N)) (pc + 2) lv (rv B (mN σ + 1) :: st)) : xV B G k n σ pc lv (.int v :: st) := by
  obtain ⟨p, l, e, R, s, m, args, below, meth, c, D, tA, HB, Q⟩ := G
  intro H locs ls hZ hL hl hk hs
  have hts := C.2.2.2.2.2.2.1
  have hR := C.2.2.2.2.2.2.2.2.1
  have hcb : componentBytes (newarray.typeOf atype) ≤ 4 := by
    rw [hat]
    rcases (show t = 0 ∨ t = 1 by omega) with rfl | rfl
    · exact Nat.le_of_ble_eq_true rfl
    · exact Nat.le_of_ble_eq_true rfl
  have hb9 : N * componentBytes (newarray.typeOf atype) ≤ 536870912 := Nat.le_trans (Nat.mul_le_mul hNb hcb) (Nat.le_of_ble_eq_true rfl)
  refine va_newaK C.1 C.2.1 (hts _ harr) rfl hdg rfl hv hN hb9 (by rw [hR.2.2.1]; exact hc) (by rw [hR.2.2.2]; exact hsl) rfl fun H1 cA e1 z1 o1 hAr hNm => ?_
  have h1 : xZ D tA B HB (nO σ (20 + t, N)) H1 := by
    refine hZ.push z1 o1 ?_
    have hcA : ∀ u, (C.2.2.2.2.2.2.2.1.1.2 t (tA t, newarray.typeOf atype) u).2 = (C.2.2.2.2.2.2.2.1.1.2 t (tA t, newarray.typeOf atype) u).2 := fun _ => rfl
    have e2 : tA t = cA := by
      have h3 := (C.2.2.2.2.2.2.2.1.1.2 t (tA t, newarray.typeOf atype) (by rcases (show t = 0 ∨ t = 1 by omega) with rfl | rfl <;> rw [hat] <;> rfl)).2
      rw [hat] at h3 hNm
      rcases (show t = 0 ∨ t = 1 by omega) with rfl | rfl
      · exact Option.some.inj (h3.symm.trans hNm)
      · exact Option.some.inj (h3.symm.trans hNm)
    have e3 : xE tA B (nO σ (20 + t, N)) (mN σ + 1) = .inl (tA t, N, .inl (fun _ => 0)) := by
      have e4 : mI (nO σ (20 + t, N)) (mN σ + 1) = fun _ => 0 := by funext j; exact nO_I _ _ _
      rw [← e4]
      rcases (show t = 0 ∨ t = 1 by omega) with rfl | rfl
      · exact xE_i (nO_T _ _)
      · exact xE_b (nO_T _ _)
    rw [e3]
    show H1[H.size]? = some (vp_cell (tA t) (N, .inl (fun _ => 0)))
    rw [e1, vp_cell_i, e2, hat]
    rcases (show t = 0 ∨ t = 1 by omega) with rfl | rfl <;> rfl
  have h2 := kk H1 locs ls h1 hL hl hk (cat_rv (cat_tl hs))
  rw [rv_pos (by omega), show B + (mN σ + 1) = H.size by have := hZ.2.1; omega] at h2
  exact h2
/-- what a call asks of the words -/
theorem x_after {y' : MethodName} {p : Program} {l : Launch} {e : Env} {R : Room} {s : State} {m : MethodId} {args : Array Value} {below : List Frame} {meth : Method} {c : Code} {D : va_G} {tA : Nat → ClassId} {HB : XH} {Q : State → Prop} {mc ms : Nat} {a9 : Array Value} {H : Heap} {locs : List Loc} {ls : Array Slot} {stk : List Value} {σ' : MM} {r : Option Value} (hr : ∀ v, r = some v → v.category = 1)
    (run : va_Run p l e R s m args below meth c H locs k n mc ms (F0 m pc ls stk) st ((fun (_ : Array Value) (_ : State) oc t => oc = Outcome.returned r ∧ xZ D tA B HB σ' t.heap) a9) (fun q => B < q)) (hL : ∀ q ∈ locs, B < q.base) (hl : lv_has ls c.maxLocals lv) (hk : lvOK lv) (hs : catOK st)
    (kk : xV B (p, l, e, R, s, m, args, below, meth, c, D, tA, HB, Q) (k + mc) (n + ms) σ' (pc + 3) lv (r.toList ++ st)) : W p l e R s m args below meth c H locs k n Q (F0 m pc ls stk) := by
  intro T hT X
  obtain ⟨v, st₀, t, T', L, h0, X', hL', e1, e2, ⟨hv, hz⟩, st9⟩ := run T hT X
  cases hv
  rw [← e1] at hz
  obtain ⟨t2, a1, b1⟩ := kk T'.heap (locs ++ L) ls hz (fun q hq => by
    rcases List.mem_append.mp hq with h | h
    · exact hL q h
    · exact hL' q h) hl hk (fun u hu => by
    rcases List.mem_append.mp hu with h | h
    · cases r with
      | none => cases h
      | some w =>
        rw [List.mem_singleton.mp h]
        exact hr w rfl
    · exact hs u h) T' rfl X'
  exact ⟨t2, st9 t2 a1, b1⟩
theorem x_blind {D : va_G} {tA : Nat → ClassId} {HB : XH} {av : List Value} : FrameBlind (va_Pc av (fun U => xZ D tA B HB σ U.heap ∧ xK B HB D tA U)) := fun a U g mk q => ⟨q.1, q.2.1, xK.same (s := U) (U := U.calling g mk a) rfl q.2.2⟩
theorem x_rv {B b : Nat} {As st : List Value} (h : b ≠ 0) : As.reverse ++ rv B b :: st = As.reverse ++ .ref (B + b) :: st := by rw [rv_pos h]
theorem cat_app {As st : List Value} (h : catOK (As ++ st)) : catOK st := fun v hv => h v (List.mem_append_right _ hv)
theorem x_recv {p : Program} {l : Launch} {e : Env} {R : Room} {s : State} {m : MethodId} {args : Array Value} {below : List Frame} {meth : Method} {c : Code} {D : va_G} {tA : Nat → ClassId} {HB : XH} {Q : State → Prop} {H : Heap} {b tg N : Nat} {q : vw_C} (C : xC B (p, l, e, R, s, m, args, below, meth, c, D, tA, HB, Q) y cc nL ret d Mc Ms) (hZ : xZ D tA B HB σ H) (hz : mT σ b = (tg, N)) (h15 : tg < 15) (hq : mCl[tg]? = some q) : ∃ cell : Cell, H[B + b]? = some cell ∧ cell.vm.isStatics = false ∧ s.vm.findClass q.1 = some cell.cls := by
  have h99 : (mT σ b).1 ≠ 99 := by rw [hz]; show tg ≠ 99; omega
  have hP := hZ.at h99
  rw [xE_o hz h15] at hP
  exact va_recv (q0 := 0) C.2.2.2.2.2.2.2.1.1 hP hq rfl
/-- a call through an object, of its class's own method -/
theorem x_callV {y' : MethodName} {cc' : ByteArray} {nL' : Nat} {ret' : Option FieldType} {d' mc ms : Nat} {As : List Value} {b tg N index : Nat} {q : vw_C} {r : Option Value} {σ' : MM} (C : xC B G y cc nL ret d Mc Ms) (hM : xMA B y' cc' nL' ret' d' mc ms (rv B b :: As) σ r σ') (hz : mT σ b = (tg, N)) (h15 : tg < 15) (hq : mCl[tg]? = some q) (hy1 : y'.cls = q.1) (hyd : xYd y' As.length) (hws : GoodIn lw_all (wsV y.cls index q.1 y' (ws_ y' cc' nL' ret'))) (hd : d' + 1 ≤ d) (hnl : nL' ≤ 21) (hc : k + mc ≤ Mc) (hsl : n + ms ≤ Ms) (hst : st.length ≤ 8) (hr : ∀ v, r = some v → v.category = 1) (hdg : decode cc pc = .ok (.invokevirtual index, 3))
    (kk : xV B G (k + mc) (n + ms) σ' (pc + 3) lv (r.toList ++ st)) : xV B G k n σ pc lv (As.reverse ++ rv B b :: st) := by
  obtain ⟨p, l, e, R, s, m, args, below, meth, c, D, tA, HB, Q⟩ := G
  intro H locs ls hZ hL hl hk hs
  have h99 : (mT σ b).1 ≠ 99 := by rw [hz]; show tg ≠ 99; omega
  have hb0 := hZ.ne h99
  have hR := C.2.2.2.2.2.2.2.2.1
  have hM9 := hM l D tA HB
  have hs2 : catOK st := cat_tl (cat_app hs)
  rw [rv_pos hb0] at hM9 ⊢
  refine x_after (y' := y') (a9 := #[]) hr (va_runV (As := As) (rest := st) (Ts := lw_all) ⟨C.1, C.2.1, C.2.2.2.2.1, C.2.2.2.2.2.1, C.2.2.2.2.2.2.1⟩ hM9 (cwV As.length C.2.2.2.2.2.2.1 hws rfl rfl rfl ⟨hy1, hyd⟩ ⟨Nat.le_trans hd hR.1, by have := hR.2.1; show 8 + (nL' + 11) + 40 * d' ≤ R.locals; omega⟩) ⟨x_blind, x_recv C hZ hz h15 hq, fun U hU hW => ⟨rfl, by rw [hU]; exact hZ, xK.moved hW C.2.2.2.2.2.2.2.1⟩⟩ rfl rfl (hl.1.trans C.2.2.2.2.1) rfl (lv_room (by rw [cat_sum hs2]; exact hst)) hdg ⟨by rw [hR.2.2.1]; exact hc, by rw [hR.2.2.2]; exact hsl⟩) hL hl hk hs2 kk
/-- a static call -/
theorem x_callS {y' : MethodName} {cc' : ByteArray} {nL' : Nat} {ret' : Option FieldType} {d' mc ms : Nat} {As : List Value} {index : Nat} {r : Option Value} {σ' : MM} (C : xC B G y cc nL ret d Mc Ms) (hM : xMA B y' cc' nL' ret' d' mc ms As σ r σ') (hyd : xYd y' As.length) (hws : GoodIn lw_all (va_wsS y.cls index y' (ws_ y' cc' nL' ret'))) (hd : d' + 1 ≤ d) (hnl : nL' ≤ 21) (hc : k + mc ≤ Mc) (hsl : n + ms ≤ Ms) (hst : st.length ≤ 8) (hr : ∀ v, r = some v → v.category = 1) (hdg : decode cc pc = .ok (.invokestatic index, 3))
    (kk : xV B G (k + mc) (n + ms) σ' (pc + 3) lv (r.toList ++ st)) : xV B G k n σ pc lv (As.reverse ++ st) := by
  obtain ⟨p, l, e, R, s, m, args, below, meth, c, D, tA, HB, Q⟩ := G
  intro H locs ls hZ hL hl hk hs
  have hR := C.2.2.2.2.2.2.2.2.1
  have hM9 := hM l D tA HB
  have hs2 : catOK st := cat_app hs
  refine x_after (y' := y') (a9 := #[]) hr (va_runS (As := As) (rest := st) (Ts := lw_all) ⟨C.1, C.2.1, C.2.2.2.2.1, C.2.2.2.2.2.1, C.2.2.2.2.2.2.1⟩ hM9 (va_cwS As.length C.2.2.2.2.2.2.1 hws rfl rfl rfl hyd ⟨Nat.le_trans hd hR.1, by have := hR.2.1; show 8 + (nL' + 11) + 40 * d' ≤ R.locals; omega⟩) ⟨x_blind, fun U hU hW => ⟨rfl, by rw [hU]; exact hZ, xK.moved hW C.2.2.2.2.2.2.2.1⟩⟩ rfl rfl (hl.1.trans C.2.2.2.2.1) rfl (lv_room (by rw [cat_sum hs2]; exact hst)) hdg ⟨by rw [hR.2.2.1]; exact hc, by rw [hR.2.2.2]; exact hsl⟩) hL hl hk hs2 kk
/-- a constructor's call -/
theorem x_callI {y' : MethodName} {cc' : ByteArray} {nL' : Nat} {d' mc ms : Nat} {As : List Value} {b index : Nat} {σ' : MM} (C : xC B G y cc nL ret d Mc Ms) (hM : xMA B y' cc' nL' none d' mc ms (rv B b :: As) σ none σ') (hb0 : b ≠ 0) (hy1 : y'.name = "<init>") (hyd : xYd y' As.length) (hws : GoodIn lw_all (ws_ y' cc' nL' none)) (hini : Cond.initialized y'.cls ∈ lw_all) (hlk : Cond.methodLink y.cls index y' ∈ lw_all) (hin : Cond.instanceMethod y' ∈ lw_all) (hd : d' + 1 ≤ d) (hnl : nL' ≤ 21) (hc : k + mc ≤ Mc) (hsl : n + ms ≤ Ms) (hst : st.length ≤ 8) (hdg : decode cc pc = .ok (.invokespecial index, 3))
    (kk : xV B G (k + mc) (n + ms) σ' (pc + 3) lv st) : xV B G k n σ pc lv (As.reverse ++ rv B b :: st) := by
  obtain ⟨p, l, e, R, s, m, args, below, meth, c, D, tA, HB, Q⟩ := G
  intro H locs ls hZ hL hl hk hs
  have hts := C.2.2.2.2.2.2.1
  have hR := C.2.2.2.2.2.2.2.2.1
  have hM9 := hM l D tA HB
  have hs2 : catOK st := cat_tl (cat_app hs)
  rw [rv_pos hb0] at hM9 ⊢
  refine x_after (y' := y') (a9 := #[]) (r := none) (fun v h => by cases h) (va_runI (As := As) (rest := st) (Ts := lw_all) ⟨C.1, C.2.1, C.2.2.2.2.1, C.2.2.2.2.2.1, C.2.2.2.2.2.2.1⟩ hM9 (cwI As.length hts hws rfl rfl rfl (hts _ hini) (hts _ hlk) (hts _ hin) hy1 hyd ⟨Nat.le_trans hd hR.1, by have := hR.2.1; show 8 + (nL' + 11) + 40 * d' ≤ R.locals; omega⟩) ⟨x_blind, fun U hU hW => ⟨rfl, by rw [hU]; exact hZ, xK.moved hW C.2.2.2.2.2.2.2.1⟩⟩ rfl rfl (hl.1.trans C.2.2.2.2.1) rfl (lv_room (by rw [cat_sum hs2]; exact hst)) hdg ⟨by rw [hR.2.2.1]; exact hc, by rw [hR.2.2.2]; exact hsl⟩) hL hl hk hs2 kk
/-- the same three, of a nest mate's private member -/
theorem x_callVN {y' : MethodName} {cc' : ByteArray} {nL' : Nat} {ret' : Option FieldType} {d' mc ms : Nat} {As : List Value} {b tg N index : Nat} {q : vw_C} {host : String} {r : Option Value} {σ' : MM} (C : xC B G y cc nL ret d Mc Ms) (hM : xMA B y' cc' nL' ret' d' mc ms (rv B b :: As) σ r σ') (hz : mT σ b = (tg, N)) (h15 : tg < 15) (hq : mCl[tg]? = some q) (hyd : xYd y' As.length) (hws : GoodIn lw_all (ws_ y' cc' nL' ret')) (hini : Cond.initialized y'.cls ∈ lw_all) (hlk : Cond.methodLinkNest y.cls index y' host ∈ lw_nest) (hin : Cond.instanceMethod y' ∈ lw_all) (hsel : Cond.selects q.1 y' y' ∈ lw_all) (hd : d' + 1 ≤ d) (hnl : nL' ≤ 21) (hc : k + mc ≤ Mc) (hsl : n + ms ≤ Ms) (hst : st.length ≤ 8) (hr : ∀ v, r = some v → v.category = 1) (hdg : decode cc pc = .ok (.invokevirtual index, 3))
    (kk : xV B G (k + mc) (n + ms) σ' (pc + 3) lv (r.toList ++ st)) : xV B G k n σ pc lv (As.reverse ++ rv B b :: st) := by
  obtain ⟨p, l, e, R, s, m, args, below, meth, c, D, tA, HB, Q⟩ := G
  intro H locs ls hZ hL hl hk hs
  have hts := C.2.2.2.2.2.2.1
  have h99 : (mT σ b).1 ≠ 99 := by rw [hz]; show tg ≠ 99; omega
  have hb0 := hZ.ne h99
  have hR := C.2.2.2.2.2.2.2.2.1
  have hM9 := hM l D tA HB
  have hs2 : catOK st := cat_tl (cat_app hs)
  rw [rv_pos hb0] at hM9 ⊢
  refine x_after (y' := y') (a9 := #[]) hr (va_runVN (As := As) (rest := st) (Ts := lw_all) ⟨C.1, C.2.1, C.2.2.2.2.1, C.2.2.2.2.2.1, hts⟩ hM9 ⟨va_cnB As.length hts hws rfl rfl rfl (C.2.2.2.2.2.2.2.1.2.1 _ hlk) (hts _ hini) hyd ⟨Nat.le_trans hd hR.1, by have := hR.2.1; show 8 + (nL' + 11) + 40 * d' ≤ R.locals; omega⟩, hts _ hin, hts _ hsel⟩ ⟨x_blind, x_recv C hZ hz h15 hq, fun U hU hW => ⟨rfl, by rw [hU]; exact hZ, xK.moved hW C.2.2.2.2.2.2.2.1⟩⟩ rfl rfl (hl.1.trans C.2.2.2.2.1) rfl (lv_room (by rw [cat_sum hs2]; exact hst)) hdg ⟨by rw [hR.2.2.1]; exact hc, by rw [hR.2.2.2]; exact hsl⟩) hL hl hk hs2 kk
theorem x_callSN {y' : MethodName} {cc' : ByteArray} {nL' : Nat} {ret' : Option FieldType} {d' mc ms : Nat} {As : List Value} {index : Nat} {host : String} {r : Option Value} {σ' : MM} (C : xC B G y cc nL ret d Mc Ms) (hM : xMA B y' cc' nL' ret' d' mc ms As σ r σ') (hyd : xYd y' As.length) (hws : GoodIn lw_all (ws_ y' cc' nL' ret')) (hini : Cond.initialized y'.cls ∈ lw_all) (hlk : Cond.methodLinkNest y.cls index y' host ∈ lw_nest) (hst9 : Cond.static y' ∈ lw_all) (hd : d' + 1 ≤ d) (hnl : nL' ≤ 21) (hc : k + mc ≤ Mc) (hsl : n + ms ≤ Ms) (hst : st.length ≤ 8) (hr : ∀ v, r = some v → v.category = 1) (hdg : decode cc pc = .ok (.invokestatic index, 3))
    (kk : xV B G (k + mc) (n + ms) σ' (pc + 3) lv (r.toList ++ st)) : xV B G k n σ pc lv (As.reverse ++ st) := by
  obtain ⟨p, l, e, R, s, m, args, below, meth, c, D, tA, HB, Q⟩ := G
  intro H locs ls hZ hL hl hk hs
  have hts := C.2.2.2.2.2.2.1
  have hR := C.2.2.2.2.2.2.2.2.1
  have hM9 := hM l D tA HB
  have hs2 : catOK st := cat_app hs
  refine x_after (y' := y') (a9 := #[]) hr (va_runSN (As := As) (rest := st) (Ts := lw_all) ⟨C.1, C.2.1, C.2.2.2.2.1, C.2.2.2.2.2.1, hts⟩ hM9 ⟨va_cnB As.length hts hws rfl rfl rfl (C.2.2.2.2.2.2.2.1.2.1 _ hlk) (hts _ hini) hyd ⟨Nat.le_trans hd hR.1, by have := hR.2.1; show 8 + (nL' + 11) + 40 * d' ≤ R.locals; omega⟩, hts _ hst9, trivial⟩ ⟨x_blind, fun U hU hW => ⟨rfl, by rw [hU]; exact hZ, xK.moved hW C.2.2.2.2.2.2.2.1⟩⟩ rfl rfl (hl.1.trans C.2.2.2.2.1) rfl (lv_room (by rw [cat_sum hs2]; exact hst)) hdg ⟨by rw [hR.2.2.1]; exact hc, by rw [hR.2.2.2]; exact hsl⟩) hL hl hk hs2 kk
theorem x_callIN {y' : MethodName} {cc' : ByteArray} {nL' : Nat} {d' mc ms : Nat} {As : List Value} {b index : Nat} {host : String} {σ' : MM} (C : xC B G y cc nL ret d Mc Ms) (hM : xMA B y' cc' nL' none d' mc ms (rv B b :: As) σ none σ') (hb0 : b ≠ 0) (hy1 : y'.name = "<init>") (hyd : xYd y' As.length) (hws : GoodIn lw_all (ws_ y' cc' nL' none)) (hini : Cond.initialized y'.cls ∈ lw_all) (hlk : Cond.methodLinkNest y.cls index y' host ∈ lw_nest) (hin : Cond.instanceMethod y' ∈ lw_all) (hd : d' + 1 ≤ d) (hnl : nL' ≤ 21) (hc : k + mc ≤ Mc) (hsl : n + ms ≤ Ms) (hst : st.length ≤ 8) (hdg : decode cc pc = .ok (.invokespecial index, 3))
    (kk : xV B G (k + mc) (n + ms) σ' (pc + 3) lv st) : xV B G k n σ pc lv (As.reverse ++ rv B b :: st) := by
  obtain ⟨p, l, e, R, s, m, args, below, meth, c, D, tA, HB, Q⟩ := G
  intro H locs ls hZ hL hl hk hs
  have hts := C.2.2.2.2.2.2.1
  have hR := C.2.2.2.2.2.2.2.2.1
  have hM9 := hM l D tA HB
  have hs2 : catOK st := cat_tl (cat_app hs)
  rw [rv_pos hb0] at hM9 ⊢
  refine x_after (y' := y') (a9 := #[]) (r := none) (fun v h => by cases h) (va_runIN (As := As) (rest := st) (Ts := lw_all) ⟨C.1, C.2.1, C.2.2.2.2.1, C.2.2.2.2.2.1, hts⟩ hM9 ⟨va_cnB As.length hts hws rfl rfl rfl (C.2.2.2.2.2.2.2.1.2.1 _ hlk) (hts _ hini) hyd ⟨Nat.le_trans hd hR.1, by have := hR.2.1; show 8 + (nL' + 11) + 40 * d' ≤ R.locals; omega⟩, hy1, hts _ hin⟩ ⟨x_blind, fun U hU hW => ⟨rfl, by rw [hU]; exact hZ, xK.moved hW C.2.2.2.2.2.2.2.1⟩⟩ rfl rfl (hl.1.trans C.2.2.2.2.1) rfl (lv_room (by rw [cat_sum hs2]; exact hst)) hdg ⟨by rw [hR.2.2.1]; exact hc, by rw [hR.2.2.2]; exact hsl⟩) hL hl hk hs2 kk
theorem r_objInit {index a : Nat} (C : xC B G y cc nL ret d Mc Ms) (ha : a ≠ 0) (h1 : Cond.methodLink y.cls index objectInit ∈ lw_all) (h2 : Cond.instanceMethod objectInit ∈ lw_all) (h3 : Cond.code objectInit ⟨#[0xb1]⟩ 1 none ∈ lw_all) (hd : 1 ≤ d) (hst : st.length ≤ 8) (hdg : decode cc pc = .ok (.invokespecial index, 3)) (kk : xV B G k n σ (pc + 3) lv st) : xV B G k n σ pc lv (rv B a :: st) := by
  obtain ⟨p, l, e, R, s, m, args, below, meth, c, D, tA, HB, Q⟩ := G
  intro H locs ls hZ hL hl hk hs
  have hts := C.2.2.2.2.2.2.1
  have hR := C.2.2.2.2.2.2.2.2.1
  rw [rv_pos ha]
  refine W.objInit C.1 C.2.1 C.2.2.2.2.2.1 (hts _ h1) (hts _ h2) (hts _ h3) rfl hl.1 rfl hdg (Nat.le_trans hd hR.1) ?_ (kk H locs ls hZ hL hl hk (cat_tl hs))
  have h5 := lv_room (m := m) (pc := pc) (ls := ls) (rest := rv B a :: st) (st := st) (by rw [cat_sum (cat_tl hs)]; exact hst)
  have hR2 := hR.2.1
  have h6 : 2 * (F0 m pc ls (Value.ref (B + a) :: st)).monitorRoom + (st.map fun v => v.category).sum ≤ 8 := by first | exact h5 | (rw [rv_pos ha] at h5; exact h5)
  omega
end XROWS5
