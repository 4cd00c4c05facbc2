/-! ROWS OVER THE MEMORY: the context G, the judgement xV, a row an instruction -/
abbrev XG : Type := Program × Launch × Env × Room × State × MethodId × Array Value × List Frame × Method × Code × va_G × (Nat → ClassId) × XH × (State → Prop)
def rmD (d mc ms : Nat) : Room := { frames := d, cells := mc, slots := ms, locals := 40 * d }
abbrev LV : Type := List (Nat × Value)
def catOK (st : List Value) : Prop := ∀ v ∈ st, v.category = 1
def lvOK (lv : LV) : Prop := ∀ q ∈ lv, q.2.category = 1
def xV (B : Nat) (G : XG) (k n : Nat) (σ : MM) (pc : Nat) (lv : LV) (st : List Value) : Prop := match G with
  | (p, l, e, R, s, m, args, below, meth, c, D, tA, HB, Q) => ∀ (H : Heap) (locs : List Loc) (ls : Array Slot), xZ D tA B HB σ H → (∀ q ∈ locs, B < q.base) → lv_has ls c.maxLocals lv → lvOK lv → catOK st → W p l e R s m args below meth c H locs k n Q (F0 m pc ls st)
def xC (B : Nat) (G : XG) (y : MethodName) (cc : ByteArray) (nL : Nat) (ret : Option FieldType) (d Mc Ms : Nat) : Prop := match G with
  | (p, _, _, R, s, m, args, _, meth, c, D, tA, HB, _) => p.tables.exec = Jvm.exec ∧ c.code = cc ∧ meth.sig.returnType = ret ∧ meth.locks = false ∧ c.maxLocals = nL ∧ s.vm.findClass y.cls = some m.cls ∧ (∀ w ∈ lw_all, w.before args s = true) ∧ xK B HB D tA s ∧ (d ≤ R.frames ∧ 40 * d ≤ R.locals ∧ R.cells = Mc ∧ R.slots = Ms) ∧ (y.name = "<init>" → meth.name = "<init>")
/-- the end that is sought: answer r, memory σ -/
def xEnd (B : Nat) (G : XG) (r : Option Value) (σ : MM) (k n : Nat) : Prop := match G with
  | (_, _, _, _, s, _, args, below, _, _, D, tA, HB, Q) => Q = MQ below (fun _ _ oc t => oc = .returned r ∧ xZ D tA B HB σ t.heap) args s k n (fun q => B < q)
/-- a method's contract -/
def xMA (B : Nat) (y : MethodName) (cc : ByteArray) (nL : Nat) (ret : Option FieldType) (d mc ms : Nat) (av : List Value) (σ : MM) (r : Option Value) (σ' : MM) : Prop :=
  ∀ (l : Launch) (D : va_G) (tA : Nat → ClassId) (HB : XH), Met l y (ws_ y cc nL ret) (rmD d mc ms) (va_Pc av (fun U => xZ D tA B HB σ U.heap ∧ xK B HB D tA U)) (fun _ _ oc t => oc = .returned r ∧ xZ D tA B HB σ' t.heap) mc ms (fun q => B < q)
def xLoc : Nat → List Value → LV
  | _, [] => []
  | i, v :: t => (i, v) :: xLoc (i + 1) t
theorem xLoc_eq : ∀ (av : List Value) (i : Nat), catOK av → lv_args i av = xLoc i av
  | [], _, _ => rfl
  | v :: t, i, h => by
    have h1 : v.category = 1 := h v List.mem_cons_self
    have h2 := xLoc_eq t (i + 1) (fun w hw => h w (List.mem_cons_of_mem _ hw))
    show (i, v) :: lv_args (if v.category = 2 then i + 2 else i + 1) t = (i, v) :: xLoc (i + 1) t
    rw [h1, if_neg (by decide), h2]
theorem xLoc_ok : ∀ (av : List Value) (i : Nat), catOK av → lvOK (xLoc i av)
  | [], _, _ => fun q h => by cases h
  | v :: t, i, h => by
    intro q hq
    rcases List.mem_cons.mp hq with e | e
    · rw [e]; exact h v List.mem_cons_self
    · exact xLoc_ok t (i + 1) (fun w hw => h w (List.mem_cons_of_mem _ hw)) q e
theorem lg_len : ∀ (av : List Value), catOK av → (lg_sl av).length = av.length
  | [], _ => rfl
  | v :: t, h => by
    have h1 : v.category = 1 := h v List.mem_cons_self
    have h2 := lg_len t (fun w hw => h w (List.mem_cons_of_mem _ hw))
    unfold lg_sl at h2 ⊢
    rw [List.flatMap_cons, List.length_append, h2, h1, if_neg (by decide)]
    simp [Nat.add_comm]
theorem cat_nil : catOK [] := fun v h => by cases h
theorem cat_int {x : Int32} {st : List Value} (h : catOK st) : catOK (.int x :: st) := fun v hv => by
  rcases List.mem_cons.mp hv with e | e
  · rw [e]; rfl
  · exact h v e
theorem cat_rv {B p : Nat} {st : List Value} (h : catOK st) : catOK (rv B p :: st) := fun v hv => by
  rcases List.mem_cons.mp hv with e | e
  · rw [e]; exact rv_cat B p
  · exact h v e
theorem cat_cons {x : Value} {st : List Value} (hx : x.category = 1) (h : catOK st) : catOK (x :: st) := fun v hv => by
  rcases List.mem_cons.mp hv with e | e
  · rw [e]; exact hx
  · exact h v e
theorem cat_tl {x : Value} {st : List Value} (h : catOK (x :: st)) : catOK st := fun v hv => h v (List.mem_cons_of_mem _ hv)
theorem cat_hd {x : Value} {st : List Value} (h : catOK (x :: st)) : x.category = 1 := h x List.mem_cons_self
theorem cat_sum : ∀ {st : List Value}, catOK st → (st.map fun v => v.category).sum = st.length
  | [], _ => rfl
  | v :: t, h => by
    rw [List.map_cons, List.sum_cons, cat_sum (cat_tl h), cat_hd h, List.length_cons, Nat.add_comm]
/-- the contract out of the walk of the body -/
theorem xMA.of {B : Nat} {y : MethodName} {cc : ByteArray} {nL : Nat} {ret : Option FieldType} {d mc ms : Nat} {av : List Value} {σ : MM} {r : Option Value} {σ' : MM} (hy : plainName y.cls = true) (hl : av.length ≤ nL) (hc : catOK av)
    (body : ∀ G : XG, xC B G y cc nL ret d mc ms → xEnd B G r σ' mc ms → xV B G 0 0 σ 0 (xLoc 0 av) []) : xMA B y cc nL ret d mc ms av σ r σ' := by
  intro l D tA HB
  refine Met.ofW (cc := cc) (maxL := nL) (ret := ret) hy rfl ?_
  intro p e s m args below meth c s₁ Bd hml hv
  obtain ⟨rfl, hZ, hK⟩ := hv
  have hts := atoms_spec (ws := ws_ y cc nL ret) Bd.pre
  have hl2 := lv_entry av (n := nL) (by rw [lg_len av hc]; exact hl)
  rw [lg_entry_eq]
  have hb := body (p, l, e, rmD d mc ms, s, m, av.toArray, below, meth, c, D, tA, HB, _) ⟨Bd.exec, Bd.bytes, Bd.returns, Bd.notSynchronized, hml, findClass_of_methodNamed Bd.named, fun w h => hts w (List.mem_cons_of_mem _ h), hK, ⟨Nat.le_refl _, Nat.le_refl _, rfl, rfl⟩, fun e => (name_of_methodNamed Bd.named Bd.method).1.trans e⟩ rfl
  refine hb s.heap [] _ hZ (fun q h => by cases h) ?_ (xLoc_ok av 0 hc) cat_nil
  rw [hml, ← xLoc_eq av 0 hc]
  exact hl2
section XROWS
variable {B : Nat} {G : XG} {y : MethodName} {cc : ByteArray} {nL : Nat} {ret : Option FieldType} {d Mc Ms : Nat} {k n : Nat} {σ : MM} {pc : Nat} {lv : LV} {st : List Value}
/-- the locals as a list -/
def lvSet (lv : LV) (i : Nat) (v : Value) : LV := (i, v) :: lv.filter (fun q => !(Nat.beq q.1 i))
def lvGet (lv : LV) (i : Nat) : Option Value := match lv with
  | [] => none
  | q :: t => bif Nat.beq q.1 i then some q.2 else lvGet t i
theorem lvGet_mem : ∀ {lv : LV} {i : Nat} {v : Value}, lvGet lv i = some v → (i, v) ∈ lv
  | [], _, _, h => by cases h
  | q :: t, i, v, h => by
    unfold lvGet at h
    by_cases hq : Nat.beq q.1 i = true
    · rw [hq, cond_true] at h
      cases h
      have e : q.1 = i := Nat.eq_of_beq_eq_true hq
      rw [← e]
      exact List.mem_cons_self
    · rw [Bool.not_eq_true] at hq
      rw [hq, cond_false] at h
      exact List.mem_cons_of_mem _ (lvGet_mem h)
theorem lvGet_at {ls : Array Slot} {N : Nat} {i : Nat} {v : Value} (h : lv_has ls N lv) (hg : lvGet lv i = some v) : ls[i]? = some (.val v) := h.2.2 _ (lvGet_mem hg)
theorem lvSet_eq {i : Nat} {v : Value} (h : lvOK lv) : (i, v) :: lv.filter (fun q => !(q.1 == i) && !(q.1 + 1 == i && q.2.category == 2)) = lvSet lv i v := by
  unfold lvSet
  congr 1
  refine List.filter_congr ?_
  intro q hq
  rw [h q hq]
  have e : (q.1 == i) = Nat.beq q.1 i := by
    cases hb : Nat.beq q.1 i with
    | true => exact beq_iff_eq.mpr (Nat.eq_of_beq_eq_true hb)
    | false => exact beq_eq_false_iff_ne.mpr (Nat.ne_of_beq_eq_false hb)
  rw [e]
  simp
theorem lvSet_ok {i : Nat} {v : Value} (h : lvOK lv) (hv : v.category = 1) : lvOK (lvSet lv i v) := by
  intro q hq
  rcases List.mem_cons.mp hq with e | e
  · rw [e]; exact hv
  · exact h q (List.mem_filter.mp e).1
/-- some of the locals, by their numbers -/
def lvPick (lv : LV) : List Nat → LV
  | [] => []
  | i :: t => match lvGet lv i with
    | some v => (i, v) :: lvPick lv t
    | none => lvPick lv t
theorem lvPick_sub : ∀ (is : List Nat), ∀ q ∈ lvPick lv is, q ∈ lv
  | [], q, h => by cases h
  | i :: t, q, h => by
    unfold lvPick at h
    cases hg : lvGet lv i with
    | none => rw [hg] at h; exact lvPick_sub t q h
    | some v =>
      rw [hg] at h
      rcases List.mem_cons.mp h with e | e
      · rw [e]; exact lvGet_mem hg
      · exact lvPick_sub t q e
theorem r_pick {lv' : LV} (is : List Nat) (he : lvPick lv is = lv') (kk : xV B G k n σ pc lv' st) : xV B G k n σ pc lv st := by
  obtain ⟨p, l, e, R, s, m, args, below, meth, c, D, tA, HB, Q⟩ := G
  intro H locs ls hZ hL hl hk hs
  subst he
  exact kk H locs ls hZ hL ⟨hl.1, hl.2.1, fun q hq => hl.2.2 q (lvPick_sub is q hq)⟩ (fun q hq => hk q (lvPick_sub is q hq)) hs
end XROWS
