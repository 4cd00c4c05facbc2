/-! ROWS of the law: its script, its end -/
abbrev yL_law : MethodName := x
abbrev RL : String := "OneCoinLaw"
def aS (L : Nat) (xs : Nat → Int32) (i : Int32) : Option Int32 := if ix i L then some (xs i.toNatClampNeg) else none
def xLaw (B b L : Nat) (xs : Nat → Int32) (G : XG) : Prop := match G with
  | (_, _, _, R, s, _, args, below, _, _, _, _, HB, Q) => args = #[Value.ref b] ∧ Q = lw_Z below #[Value.ref b] s ∧ R = room_1 ∧ s.heap.size = B + 1 ∧ b ≤ B ∧ va_X b L xs s HB.1
section XLAW
variable {B : Nat} {G : XG} {y : MethodName} {cc : ByteArray} {nL : Nat} {d Mc Ms : Nat} {k n : Nat} {σ : MM} {pc : Nat} {lv : LV} {st : List Value} {b L : Nat} {xs : Nat → Int32}
theorem r_scrl (C : xC B G y cc nL (some .boolean) d Mc Ms) (E : xLaw B b L xs G) (hdg : decode cc pc = .ok (.arraylength, 1)) (kk : xV B G k n σ (pc + 1) lv (.int (nI L) :: st)) : xV B G k n σ pc lv (.ref b :: st) := by
  obtain ⟨p, l, e, R, s, m, args, below, meth, c, D, tA, HB, Q⟩ := G
  intro H locs ls hZ hL hl hk hs
  obtain ⟨-, -, -, -, hb, scr, h1, h2, h3, h4, h5⟩ := E
  have h1 : H[b]? = some scr := (hZ.2.2.1 b hb).trans h1
  exact W.alen C.1 C.2.1 h1 h2 (by rw [h4]; rfl) rfl rfl hdg (kk H locs ls hZ hL hl hk (cat_int (cat_tl hs)))
theorem r_scri {α : Type} {i : Int32} {f : Int32 → Option α} {r : α} (C : xC B G y cc nL (some .boolean) d Mc Ms) (E : xLaw B b L xs G) (hdg : decode cc pc = .ok (.iaload, 1)) (h : (aS L xs i).bind f = some r) (kk : ∀ v, f v = some r → xV B G k n σ (pc + 1) lv (.int v :: st)) : xV B G k n σ pc lv (.int i :: .ref b :: st) := by
  unfold aS at h
  by_cases hz : ix i L
  · rw [if_pos hz] at h
    have kk := kk _ h
    obtain ⟨p, l, e, R, s, m, args, below, meth, c, D, tA, HB, Q⟩ := G
    intro H locs ls hZ hL hl hk hs
    obtain ⟨-, -, -, -, hb, scr, h1, h2, h3, h4, h5⟩ := E
    have h1 : H[b]? = some scr := (hZ.2.2.1 b hb).trans h1
    exact W.iald C.1 C.2.1 h1 h2 h3 (by rw [h4]; exact hz.vp) (h5 _ hz.2) rfl rfl hdg (kk H locs ls hZ hL hl hk (cat_int (cat_tl (cat_tl hs))))
  · rw [if_neg hz] at h; cases h
/-- the law's end: true -/
theorem r_lret {v : Int32} {σf : MM} {kf nf : Nat} (C : xC B G y code nL (some .boolean) d 1200000 5502250) (E : xLaw B b L xs G) (hdg : decode code pc = .ok (.ireturn, 1)) (h : some (v, σ, k, n) = some ((1 : Int32), σf, kf, nf)) (hk9 : k ≤ 1200000) (hn9 : n ≤ 5502250) : xV B G k n σ pc lv [.int v] := by
  have hv : v = 1 := congrArg (fun o : Option (Int32 × MM × Nat × Nat) => (o.getD (0, σ, 0, 0)).1) h
  subst hv
  obtain ⟨p, l, e, R, s, m, args, below, meth, c, D, tA, HB, Q⟩ := G
  intro H locs ls hZ hL hl hk hs
  obtain ⟨e1, e2, e3, e4, -, -⟩ := E
  have hret := C.2.2.1
  have hx := C.1
  have hb := C.2.1
  have hlk := C.2.2.2.1
  subst e1; subst e2; subst e3
  refine W.widen hk9 hn9 (va_forget (fun q hq => ?_) ?_)
  · have := hL q hq
    omega
  · exact lw_ret hx hb hret hlk hdg
/-- a call that makes a known number of cells -/
theorem r_callVIm {ret : Option FieldType} {α : Type} {y' : MethodName} {cc' : ByteArray} {nL' : Nat} {ret' : Option FieldType} {d' mc ms na k' n' : Nat} {As : List Value} {b tg N index : Nat} {x : Option (Int32 × MM)} {f : Int32 → MM → Option α} {r : α} (C : xC B G y cc nL ret d Mc Ms) (cs : xCV y.cls index y' cc' nL' ret' tg N na) (h : bq x f = some r) (hM : ∀ (v : Int32) (σ' : MM), x = some (v, σ') → xMA B y' cc' nL' ret' d' mc ms (rv B b :: As) σ (some (.int v)) σ') (hT : ∀ (v : Int32) (σ' : MM), x = some (v, σ') → mT σ b = (tg, N)) (hd : d' + 1 ≤ d) (hc : k + mc ≤ Mc) (hsl : n + ms ≤ Ms) (ek : k + mc = k') (en : n + ms = n') (hst : st.length ≤ 8) (hdg : decode cc pc = .ok (.invokevirtual index, 3)) (kk : ∀ (v : Int32) (σ' : MM), f v σ' = some r → xV B G k' n' σ' (pc + 3) lv (.int v :: st)) (hna : As.length = na := by rfl) : xV B G k n σ pc lv (As.reverse ++ rv B b :: st) := by
  subst ek; subst en
  obtain ⟨v, σ', e, h⟩ := r_bq h
  exact x_cV C cs hna (hM v σ' e) (hT v σ' e) hd hc hsl hst (fun w e => by cases e; rfl) hdg (kk v σ' h)
end XLAW
