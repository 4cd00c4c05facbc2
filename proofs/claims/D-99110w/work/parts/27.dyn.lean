/-! METHODS THAT MAKE AS MANY CELLS AS THEIR TEXT ASKS: room and use told apart -/
def xMD (B : Nat) (y : MethodName) (cc : ByteArray) (nL : Nat) (ret : Option FieldType) (d rc rs mc ms : Nat) (av : List Value) (σ : MM) (r : Option Value) (σ' : MM) : Prop :=
  ∀ (l : Launch) (D : va_G) (tA : Nat → ClassId) (HB : XH), Met l y (ws_ y cc nL ret) (rmD d rc rs) (va_Pc av (fun U => xZ D tA B HB σ U.heap ∧ xK B HB D tA U)) (fun _ _ oc t => oc = .returned r ∧ xZ D tA B HB σ' t.heap) mc ms (fun q => B < q)
theorem xMD.of {B : Nat} {y : MethodName} {cc : ByteArray} {nL : Nat} {ret : Option FieldType} {d rc rs mc ms : Nat} {av : List Value} {σ : MM} {r : Option Value} {σ' : MM} (hy : plainName y.cls = true) (hl : av.length ≤ nL) (hc : catOK av)
    (body : ∀ G : XG, xC B G y cc nL ret d rc rs → xEnd B G r σ' mc ms → xV B G 0 0 σ 0 (xLoc 0 av) []) : xMD B y cc nL ret d rc rs mc ms av σ r σ' := by
  intro l D tA HB
  refine Met.ofW (cc := cc) (maxL := nL) (ret := ret) hy rfl ?_
  intro p e s m args below meth c s₁ Bd hml hv
  obtain ⟨rfl, hZ, hK⟩ := hv
  have hts := atoms_spec (ws := ws_ y cc nL ret) Bd.pre
  have hl2 := lv_entry av (n := nL) (by rw [lg_len av hc]; exact hl)
  rw [lg_entry_eq]
  have hb := body (p, l, e, rmD d rc rs, s, m, av.toArray, below, meth, c, D, tA, HB, _) ⟨Bd.exec, Bd.bytes, Bd.returns, Bd.notSynchronized, hml, findClass_of_methodNamed Bd.named, fun w h => hts w (List.mem_cons_of_mem _ h), hK, ⟨Nat.le_refl _, Nat.le_refl _, rfl, rfl⟩, fun e => (name_of_methodNamed Bd.named Bd.method).1.trans e⟩ rfl
  refine hb s.heap [] _ hZ (fun q h => by cases h) ?_ (xLoc_ok av 0 hc) cat_nil
  rw [hml, ← xLoc_eq av 0 hc]
  exact hl2
theorem back_ofD {l : Launch} {R : Room} {p : Program} {e : Env} {below : List Frame} {s : State} {sargs : Array Value} {y : MethodName} {len W : Nat} {ws : List Cond} {rm : Room} {Pc : Array Value → State → Prop} {Qc : Array Value → State → Outcome → State → Prop} {rc rs mc ms : Nat} {free : Addr → Prop} {bytes : ByteArray} {maxL : Nat} {ret : Option FieldType}
    (hM : Met l y ws rm Pc Qc mc ms free) (hblind : FrameBlind Pc) (hrc : rm.cells = rc) (hrs : rm.slots = rs)
    (hframes : rm.frames + 1 ≤ R.frames) (hlocals : W + (maxL + 11) + rm.locals ≤ R.locals)
    (hws : ∀ w ∈ ws, ∀ a' U, s.WarmedH U.vm → w.before a' U = true) (hcode : Cond.code y bytes maxL ret ∈ ws) (hinit : ∀ a' U, s.WarmedH U.vm → (Cond.initialized y.cls).before a' U = true) :
    Back l R p e below s sargs y len W (PreOf R rc rs Pc) (PostOf Qc mc ms free) := by
  refine Back.of_free (S := headSpec ws rm) (P := Pc) (K := fun _ _ _ _ _ => True) (Q := fun a st o t => Qc a st o t ∧ ∃ L, FrameEnd st o t L mc ms ∧ ∀ q ∈ L, free q.base) (bytes := bytes) (maxL := maxL) (ret := ret)
    (E := fun a st o t L k n => k = mc ∧ n = ms ∧ ∀ q ∈ L, free q.base) hM hframes hlocals ?_ ?_ (fun _ _ _ _ _ _ _ _ _ => trivial) ?_ ?_
  · intro m meth c A a X hp
    exact ⟨atoms_intro fun w hw => hws w hw _ _ X.warmed, hws _ hcode _ _ X.warmed, hinit _ _ X.warmed, by rw [show (headSpec ws rm).room.cells = rc from hrc]; exact hp.1, by rw [show (headSpec ws rm).room.slots = rs from hrs]; exact hp.2.1⟩
  · intro m meth c A a g mk X hp
    exact hblind _ _ _ _ hp.2.2
  · intro a st o t ⟨hq, L, hF, hL⟩
    exact ⟨L, mc, ms, hF, rfl, rfl, hL⟩
  · intro m meth c A a g mk v t L k n X hp hq hF ⟨e1, e2, hL⟩
    subst e1; subst e2
    exact ⟨g, mk, t, L, rfl, rfl, hq.1, rfl, hL, rfl, rfl⟩
/-- an answer, the memory, cells and slots made: within the room -/
def bc {α ρ : Type} (Lc Ls : Nat) (x : Option (α × MM × Nat × Nat)) (f : α → MM → Nat → Nat → Option ρ) : Option ρ := match x with
  | none => none
  | some q => if q.2.2.1 ≤ Lc ∧ q.2.2.2 ≤ Ls then f q.1 q.2.1 q.2.2.1 q.2.2.2 else none
theorem r_bc {α ρ : Type} {Lc Ls : Nat} {x : Option (α × MM × Nat × Nat)} {f : α → MM → Nat → Nat → Option ρ} {r : ρ} (h : bc Lc Ls x f = some r) : ∃ (a : α) (σ : MM) (c s : Nat), x = some (a, σ, c, s) ∧ c ≤ Lc ∧ s ≤ Ls ∧ f a σ c s = some r := by
  cases x with
  | none => cases h
  | some q =>
    have h : (if q.2.2.1 ≤ Lc ∧ q.2.2.2 ≤ Ls then f q.1 q.2.1 q.2.2.1 q.2.2.2 else none) = some r := h
    obtain ⟨hc, h⟩ := r_ck h
    exact ⟨q.1, q.2.1, q.2.2.1, q.2.2.2, rfl, hc.1, hc.2, h⟩
def nwL {α : Type} (ok : Prop) [Decidable ok] (σ : MM) (t : Nat × Nat) (f : Nat → MM → Option α) : Option α := if ok then f (mN σ + 1) (nO σ t) else none
section XDYN
variable {B : Nat} {G : XG} {y : MethodName} {cc : ByteArray} {nL : Nat} {ret : Option FieldType} {d Mc Ms : Nat} {k n : Nat} {σ : MM} {pc : Nat} {lv : LV} {st : List Value}
theorem x_cVD {y' : MethodName} {cc' : ByteArray} {nL' : Nat} {ret' : Option FieldType} {d' rc rs mc ms na : Nat} {As : List Value} {b tg N index : Nat} {r : Option Value} {σ' : MM} (C : xC B G y cc nL ret d Mc Ms) (cs : xCV y.cls index y' cc' nL' ret' tg N na) (hcl : (mCl[tg]?).map (·.1) = some y'.cls) (hl9 : GoodIn lw_all (wsV y.cls index y'.cls y' (ws_ y' cc' nL' ret'))) (hna : As.length = na) (hM : xMD B y' cc' nL' ret' d' rc rs mc ms (rv B b :: As) σ r σ') (hz : mT σ b = (tg, N)) (hd : d' + 1 ≤ d) (hc : k + rc ≤ Mc) (hsl : n + rs ≤ Ms) (hst : st.length ≤ 8) (hr : ∀ v, r = some v → v.category = 1) (hdg : decode cc pc = .ok (.invokevirtual index, 3))
    (kk : xV B G (k + mc) (n + ms) σ' (pc + 3) lv (r.toList ++ st)) : xV B G k n σ pc lv (As.reverse ++ rv B b :: st) := by
  obtain ⟨h15, hnl, q, hq, hyd, -⟩ := cs
  have hq1 : q.1 = y'.cls := by rw [hq] at hcl; exact Option.some.inj hcl
  obtain ⟨p, l, e, R, s, m, args, below, meth, c, D, tA, HB, Q⟩ := G
  intro H locs ls hZ hL hl hk hs
  subst hna
  have hts := C.2.2.2.2.2.2.1
  have h99 : (mT σ b).1 ≠ 99 := by rw [hz]; show tg ≠ 99; omega
  have hb0 := hZ.ne h99
  have hR := C.2.2.2.2.2.2.2.2.1
  have hM9 := hM l D tA HB
  have hs2 : catOK st := cat_tl (cat_app hs)
  rw [rv_pos hb0] at hM9 ⊢
  have cw := cwV (R := R) (mc := rc) (ms := rs) (rm := rmD d' rc rs) As.length hts hl9 rfl rfl rfl ⟨rfl, hyd⟩ ⟨Nat.le_trans hd hR.1, by have := hR.2.1; show 8 + (nL' + 11) + 40 * d' ≤ R.locals; omega⟩
  obtain ⟨⟨-, -, hfr, hlo, hwsg, hcw, hcode, hini, hy9, hlen, hl7⟩, hin9, hse9⟩ := cw
  have hBk : Back l R p e below s args y' 3 8 (PreOf R rc rs _) (PostOf _ mc ms _) := back_ofD (bytes := cc') (maxL := nL') (ret := ret') hM9 x_blind rfl rfl hfr hlo hwsg hcw (fun a' U hW => word_at hW (Or.inl (by first | rfl | simp [Cond.onTables, Cond.keeps, Cond.steady])) hini)
  obtain ⟨cellB, hcB, hoB, hclB⟩ := x_recv C hZ hz h15 hq
  rw [hq1] at hclB
  refine x_after (y' := y') (a9 := (Value.ref (B + b) :: As).toArray) hr (fun T hT X => ?_) hL hl hk hs2 kk
  obtain ⟨v, vm₁, ⟨U', l2, c2, s2⟩, hW₁, X', ⟨g', mk, t, L, e1, e2, hq, h1, hL9, h2, h3⟩, st9⟩ := callV X C.1 (C := y'.cls) (bytes := cc') (maxL := nL') (ret := ret') C.2.2.2.2.2.1 hl7 hin9 hse9 hcode hy9 hBk (by rw [hT]; exact hcB) hoB hclB (g := F0 m pc ls (As.reverse ++ .ref (B + b) :: st)) rfl hl.1 (argsL := As) (rest := st) (fun sig h => hlen sig h) rfl (lv_room (by rw [cat_sum hs2]; exact hst)) (by rw [C.2.1]; exact hdg)
    (fun vm₁ hW₁ => ⟨by rw [hR.2.2.1]; exact hc, by rw [hR.2.2.2]; exact hsl, rfl, by show xZ D tA B HB σ T.heap; rw [hT]; exact hZ, xK.moved hW₁ C.2.2.2.2.2.2.2.1⟩)
  dsimp only [Pt.U, Pt.locs, Pt.cells, Pt.slots] at X' e1 e2 h1 h2 h3 st9
  subst h1; subst h2; subst h3
  exact ⟨v, (T.setVm vm₁).calling g' mk (Value.ref (B + b) :: As).toArray, t, U', L, hT, X', hL9, e1, e2, hq, st9⟩
theorem r_newL {α : Type} {index tg N k' n' : Nat} {Cn : String} {ok : Prop} [Decidable ok] {f : Nat → MM → Option α} {r : α} (C : xC B G y cc nL ret d Mc Ms) (hK : xCl tg N Cn) (hlk : Cond.classLink y.cls index Cn ∈ lw_all) (hins : Cond.instantiable Cn N ∈ lw_all) (hini : Cond.initialized Cn ∈ lw_all) (hdg : decode cc pc = .ok (.new index, 3)) (ek : k + 1 = k') (en : n + N = n') (hok : ok → k' ≤ Mc ∧ n' ≤ Ms) (h : nwL ok σ (tg, N) f = some r) (kk : ∀ (p : Nat) (σ' : MM), ok → f p σ' = some r → xV B G k' n' σ' (pc + 3) lv (rv B p :: st)) : xV B G k n σ pc lv st := by
  subst ek; subst en
  unfold nwL at h
  obtain ⟨ho, h⟩ := r_ck h
  exact r_new C hK hlk hins hini hdg (hok ho).1 (hok ho).2 (kk _ _ ho h)
/-- a call of a method whose use its mirror tells -/
theorem r_callVDP {α : Type} {y' : MethodName} {cc' : ByteArray} {nL' : Nat} {ret' : Option FieldType} {d' na Lc Ls : Nat} {As : List Value} {b tg N index : Nat} {x : Option (Nat × MM × Nat × Nat)} {f : Nat → MM → Nat → Nat → Option α} {r : α} (C : xC B G y cc nL ret d Mc Ms) (cs : xCV y.cls index y' cc' nL' ret' tg N na) (hcl : (mCl[tg]?).map (·.1) = some y'.cls) (hl9 : GoodIn lw_all (wsV y.cls index y'.cls y' (ws_ y' cc' nL' ret'))) (h : bc Lc Ls x f = some r) (hM : ∀ (v : Nat) (σ' : MM) (c s : Nat), x = some (v, σ', c, s) → xMD B y' cc' nL' ret' d' Lc Ls c s (rv B b :: As) σ (some (rv B v)) σ') (hT : ∀ (v : Nat) (σ' : MM) (c s : Nat), x = some (v, σ', c, s) → mT σ b = (tg, N)) (hd : d' + 1 ≤ d) (hst : st.length ≤ 8) (hdg : decode cc pc = .ok (.invokevirtual index, 3)) (hc : k + Lc ≤ Mc) (hsl : n + Ls ≤ Ms) (kk : ∀ (v : Nat) (σ' : MM) (c s : Nat), c ≤ Lc → s ≤ Ls → f v σ' c s = some r → xV B G (k + c) (n + s) σ' (pc + 3) lv (rv B v :: st)) (hna : As.length = na := by rfl) : xV B G k n σ pc lv (As.reverse ++ rv B b :: st) := by
  obtain ⟨v, σ', c, s, e, h1, h2, h⟩ := r_bc h
  exact x_cVD C cs hcl hl9 hna (hM v σ' c s e) (hT v σ' c s e) hd hc hsl hst (fun w e => by cases e; exact rv_cat _ _) hdg (kk v σ' c s h1 h2 h)
/-- a call of a method whose use its mirror tells -/
theorem r_callVDI {α : Type} {y' : MethodName} {cc' : ByteArray} {nL' : Nat} {ret' : Option FieldType} {d' na Lc Ls : Nat} {As : List Value} {b tg N index : Nat} {x : Option (Int32 × MM × Nat × Nat)} {f : Int32 → MM → Nat → Nat → Option α} {r : α} (C : xC B G y cc nL ret d Mc Ms) (cs : xCV y.cls index y' cc' nL' ret' tg N na) (hcl : (mCl[tg]?).map (·.1) = some y'.cls) (hl9 : GoodIn lw_all (wsV y.cls index y'.cls y' (ws_ y' cc' nL' ret'))) (h : bc Lc Ls x f = some r) (hM : ∀ (v : Int32) (σ' : MM) (c s : Nat), x = some (v, σ', c, s) → xMD B y' cc' nL' ret' d' Lc Ls c s (rv B b :: As) σ (some (.int v)) σ') (hT : ∀ (v : Int32) (σ' : MM) (c s : Nat), x = some (v, σ', c, s) → mT σ b = (tg, N)) (hd : d' + 1 ≤ d) (hst : st.length ≤ 8) (hdg : decode cc pc = .ok (.invokevirtual index, 3)) (hc : k + Lc ≤ Mc) (hsl : n + Ls ≤ Ms) (kk : ∀ (v : Int32) (σ' : MM) (c s : Nat), c ≤ Lc → s ≤ Ls → f v σ' c s = some r → xV B G (k + c) (n + s) σ' (pc + 3) lv (.int v :: st)) (hna : As.length = na := by rfl) : xV B G k n σ pc lv (As.reverse ++ rv B b :: st) := by
  obtain ⟨v, σ', c, s, e, h1, h2, h⟩ := r_bc h
  exact x_cVD C cs hcl hl9 hna (hM v σ' c s e) (hT v σ' c s e) hd hc hsl hst (fun w e => by cases e; rfl) hdg (kk v σ' c s h1 h2 h)
/-- a call of a method whose use its mirror tells -/
theorem r_callVDV {α : Type} {y' : MethodName} {cc' : ByteArray} {nL' : Nat} {ret' : Option FieldType} {d' na Lc Ls : Nat} {As : List Value} {b tg N index : Nat} {x : Option (Unit × MM × Nat × Nat)} {f : Unit → MM → Nat → Nat → Option α} {r : α} (C : xC B G y cc nL ret d Mc Ms) (cs : xCV y.cls index y' cc' nL' ret' tg N na) (hcl : (mCl[tg]?).map (·.1) = some y'.cls) (hl9 : GoodIn lw_all (wsV y.cls index y'.cls y' (ws_ y' cc' nL' ret'))) (h : bc Lc Ls x f = some r) (hM : ∀ (v : Unit) (σ' : MM) (c s : Nat), x = some (v, σ', c, s) → xMD B y' cc' nL' ret' d' Lc Ls c s (rv B b :: As) σ none σ') (hT : ∀ (v : Unit) (σ' : MM) (c s : Nat), x = some (v, σ', c, s) → mT σ b = (tg, N)) (hd : d' + 1 ≤ d) (hst : st.length ≤ 8) (hdg : decode cc pc = .ok (.invokevirtual index, 3)) (hc : k + Lc ≤ Mc) (hsl : n + Ls ≤ Ms) (kk : ∀ (v : Unit) (σ' : MM) (c s : Nat), c ≤ Lc → s ≤ Ls → f v σ' c s = some r → xV B G (k + c) (n + s) σ' (pc + 3) lv st) (hna : As.length = na := by rfl) : xV B G k n σ pc lv (As.reverse ++ rv B b :: st) := by
  obtain ⟨v, σ', c, s, e, h1, h2, h⟩ := r_bc h
  exact x_cVD C cs hcl hl9 hna (hM v σ' c s e) (hT v σ' c s e) hd hc hsl hst (fun w e => by cases e) hdg (kk v σ' c s h1 h2 h)
theorem r_aretD {v rf : Nat} {σf : MM} {kf nf : Nat} {cn : String} (C : xC B G y cc nL ret d Mc Ms) (hr : ret = some (.object cn)) (hdg : decode cc pc = .ok (.areturn, 1)) (h : some (v, σ, k, n) = some (rf, σf, kf, nf)) (E : xEnd B G (some (rv B rf)) σf kf nf) : xV B G k n σ pc lv [rv B v] := by
  cases h
  exact r_aret C hr hdg rfl E
theorem r_iretD {v rf : Int32} {σf : MM} {kf nf : Nat} (C : xC B G y cc nL ret d Mc Ms) (hr : ret = some .int) (hdg : decode cc pc = .ok (.ireturn, 1)) (h : some (v, σ, k, n) = some (rf, σf, kf, nf)) (E : xEnd B G (some (.int rf)) σf kf nf) : xV B G k n σ pc lv [.int v] := by
  cases h
  exact r_iret C hr hdg rfl E
theorem r_vretD {rf : Unit} {σf : MM} {kf nf : Nat} (C : xC B G y cc nL ret d Mc Ms) (hr : ret = none) (hdg : decode cc pc = .ok (.return_, 1)) (h : some ((), σ, k, n) = some (rf, σf, kf, nf)) (E : xEnd B G none σf kf nf) : xV B G k n σ pc lv [] := by
  cases h
  exact r_vret C hr hdg rfl E
end XDYN
