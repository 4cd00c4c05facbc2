/-! ROWS: switches; the mirrors' binds, joins, loops -/
/-- a call's answer and memory -/
def bq {α ρ : Type} (x : Option (α × MM)) (f : α → MM → Option ρ) : Option ρ := match x with
  | none => none
  | some q => f q.1 q.2
theorem r_bq {α ρ : Type} {x : Option (α × MM)} {f : α → MM → Option ρ} {r : ρ} (h : bq x f = some r) : ∃ (a : α) (σ : MM), x = some (a, σ) ∧ f a σ = some r := by
  cases x with
  | none => cases h
  | some q => exact ⟨q.1, q.2, rfl, h⟩
theorem bq_some {α ρ : Type} {a : α} {σ : MM} {f : α → MM → Option ρ} : bq (some (a, σ)) f = f a σ := rfl
theorem r_bm {α ρ : Type} {x : Option α} {f : α → Option ρ} {r : ρ} (h : x.bind f = some r) : ∃ a : α, x = some a ∧ f a = some r := by
  cases x with
  | none => cases h
  | some q => exact ⟨q, rfl, h⟩
/-- a place where ways meet: k is what follows -/
def jn {κ ρ : Type} (k : κ) (b : κ → Option ρ) : Option ρ := b k
theorem r_jn {κ ρ : Type} {kf : κ} {b : κ → Option ρ} {r : ρ} {Gl : Prop} (I : κ → Prop) (h : jn kf b = some r) (hk : I kf) (hb : ∀ k : κ, I k → b k = some r → Gl) : Gl := hb kf hk h
theorem r_ck {ρ : Type} {c : Prop} [Decidable c] {x : Option ρ} {r : ρ} (h : (if c then x else none) = some r) : c ∧ x = some r := by
  by_cases hc : c
  · rw [if_pos hc] at h; exact ⟨hc, h⟩
  · rw [if_neg hc] at h; cases h
theorem tsw_ne {x z : Int32} {i : Int} (h : ¬ x = z) (hz : z.toInt = i) : x.toInt ≠ i := fun e => h (Int32.toInt_inj.mp (e.trans hz.symm))
section XROWS6
variable {B : Nat} {G : XG} {y : MethodName} {cc : ByteArray} {nL : Nat} {ret : Option FieldType} {d Mc Ms : Nat} {k n : Nat} {σ : MM} {pc : Nat} {lv : LV} {st : List Value}
theorem r_tswE {dflt lo hi : Int} {offs : Array Int} {len : Nat} {x z : Int32} {off : Int} {tgt : Nat} (C : xC B G y cc nL ret d Mc Ms) (hdg : decode cc pc = .ok (.tableswitch dflt lo hi offs, len)) (hx : x = z) (h1 : ¬ z.toInt < lo) (h2 : ¬ hi < z.toInt) (ho : offs[(z.toInt - lo).toNat]? = some off) (ht : (pc : Int) + off = (tgt : Int)) (kk : xV B G k n σ tgt lv st) : xV B G k n σ pc lv (.int x :: st) := by
  obtain ⟨p, l, e, R, s, m, args, below, meth, c, D, tA, HB, Q⟩ := G
  intro H locs ls hZ hL hl hk hs
  subst hx
  exact lv_tableIn C.1 C.2.1 hdg h1 h2 ho ht (kk H locs ls hZ hL hl hk (cat_tl hs))
theorem r_tswO {dflt lo hi : Int} {offs : Array Int} {len : Nat} {x : Int32} {tgt : Nat} (C : xC B G y cc nL ret d Mc Ms) (hdg : decode cc pc = .ok (.tableswitch dflt lo hi offs, len)) (hx : x.toInt < lo ∨ hi < x.toInt) (ht : (pc : Int) + dflt = (tgt : Int)) (kk : xV B G k n σ tgt lv st) : xV B G k n σ pc lv (.int x :: st) := by
  obtain ⟨p, l, e, R, s, m, args, below, meth, c, D, tA, HB, Q⟩ := G
  intro H locs ls hZ hL hl hk hs
  exact lv_tableOut C.1 C.2.1 hdg hx ht (kk H locs ls hZ hL hl hk (cat_tl hs))

/-- what the tables say of a call's place: own class and pool index, the method that runs; tag of the receiver, number of arguments -/
def xCV (own : String) (index : Nat) (y' : MethodName) (cc' : ByteArray) (nL' : Nat) (ret' : Option FieldType) (tg N na : Nat) : Prop := tg < 15 ∧ nL' ≤ 21 ∧ ∃ q : vw_C, mCl[tg]? = some q ∧ xYd y' na ∧ ((y'.cls = q.1 ∧ GoodIn lw_all (wsV own index q.1 y' (ws_ y' cc' nL' ret'))) ∨ (GoodIn lw_all (ws_ y' cc' nL' ret') ∧ Cond.initialized y'.cls ∈ lw_all ∧ ∃ host : String, Cond.methodLinkNest own index y' host ∈ lw_nest ∧ Cond.instanceMethod y' ∈ lw_all ∧ Cond.selects q.1 y' y' ∈ lw_all))
def xCS (own : String) (index : Nat) (y' : MethodName) (cc' : ByteArray) (nL' : Nat) (ret' : Option FieldType) (na : Nat) : Prop := nL' ≤ 21 ∧ xYd y' na ∧ (GoodIn lw_all (va_wsS own index y' (ws_ y' cc' nL' ret')) ∨ (GoodIn lw_all (ws_ y' cc' nL' ret') ∧ Cond.initialized y'.cls ∈ lw_all ∧ ∃ host : String, Cond.methodLinkNest own index y' host ∈ lw_nest ∧ Cond.static y' ∈ lw_all))
def xCI (own : String) (index : Nat) (y' : MethodName) (cc' : ByteArray) (nL' : Nat) (na : Nat) : Prop := nL' ≤ 21 ∧ y'.name = "<init>" ∧ xYd y' na ∧ GoodIn lw_all (ws_ y' cc' nL' none) ∧ Cond.initialized y'.cls ∈ lw_all ∧ Cond.instanceMethod y' ∈ lw_all ∧ (Cond.methodLink own index y' ∈ lw_all ∨ ∃ host : String, Cond.methodLinkNest own index y' host ∈ lw_nest)
theorem x_cV {y' : MethodName} {cc' : ByteArray} {nL' : Nat} {ret' : Option FieldType} {d' mc ms na : Nat} {As : List Value} {b tg N index : Nat} {r : Option Value} {σ' : MM} (C : xC B G y cc nL ret d Mc Ms) (cs : xCV y.cls index y' cc' nL' ret' tg N na) (hna : As.length = na) (hM : xMA B y' cc' nL' ret' d' mc ms (rv B b :: As) σ r σ') (hz : mT σ b = (tg, N)) (hd : d' + 1 ≤ d) (hc : k + mc ≤ Mc) (hsl : n + ms ≤ Ms) (hst : st.length ≤ 8) (hr : ∀ v, r = some v → v.category = 1) (hdg : decode cc pc = .ok (.invokevirtual index, 3))
    (kk : xV B G (k + mc) (n + ms) σ' (pc + 3) lv (r.toList ++ st)) : xV B G k n σ pc lv (As.reverse ++ rv B b :: st) := by
  obtain ⟨h15, hnl, q, hq, hyd, h | ⟨h1, h2, host, h3, h4, h5⟩⟩ := cs
  · exact x_callV C hM hz h15 hq h.1 (hna ▸ hyd) h.2 hd hnl hc hsl hst hr hdg kk
  · exact x_callVN C hM hz h15 hq (hna ▸ hyd) h1 h2 h3 h4 h5 hd hnl hc hsl hst hr hdg kk
theorem x_cS {y' : MethodName} {cc' : ByteArray} {nL' : Nat} {ret' : Option FieldType} {d' mc ms na : Nat} {As : List Value} {index : Nat} {r : Option Value} {σ' : MM} (C : xC B G y cc nL ret d Mc Ms) (cs : xCS y.cls index y' cc' nL' ret' na) (hna : As.length = na) (hM : xMA B y' cc' nL' ret' d' mc ms As σ r σ') (hd : d' + 1 ≤ d) (hc : k + mc ≤ Mc) (hsl : n + ms ≤ Ms) (hst : st.length ≤ 8) (hr : ∀ v, r = some v → v.category = 1) (hdg : decode cc pc = .ok (.invokestatic index, 3))
    (kk : xV B G (k + mc) (n + ms) σ' (pc + 3) lv (r.toList ++ st)) : xV B G k n σ pc lv (As.reverse ++ st) := by
  obtain ⟨hnl, hyd, h | ⟨h1, h2, host, h3, h4⟩⟩ := cs
  · exact x_callS C hM (hna ▸ hyd) h hd hnl hc hsl hst hr hdg kk
  · exact x_callSN C hM (hna ▸ hyd) h1 h2 h3 h4 hd hnl hc hsl hst hr hdg kk
theorem x_cI {y' : MethodName} {cc' : ByteArray} {nL' : Nat} {d' mc ms na : Nat} {As : List Value} {b index : Nat} {σ' : MM} (C : xC B G y cc nL ret d Mc Ms) (cs : xCI y.cls index y' cc' nL' na) (hna : As.length = na) (hM : xMA B y' cc' nL' none d' mc ms (rv B b :: As) σ none σ') (hb0 : b ≠ 0) (hd : d' + 1 ≤ d) (hc : k + mc ≤ Mc) (hsl : n + ms ≤ Ms) (hst : st.length ≤ 8) (hdg : decode cc pc = .ok (.invokespecial index, 3))
    (kk : xV B G (k + mc) (n + ms) σ' (pc + 3) lv st) : xV B G k n σ pc lv (As.reverse ++ rv B b :: st) := by
  obtain ⟨hnl, hy1, hyd, h1, h2, h4, h | ⟨host, h3⟩⟩ := cs
  · exact x_callI C hM hb0 hy1 (hna ▸ hyd) h1 h2 h h4 hd hnl hc hsl hst hdg kk
  · exact x_callIN C hM hb0 hy1 (hna ▸ hyd) h1 h2 h3 h4 hd hnl hc hsl hst hdg kk
theorem r_callVI {α : Type} {y' : MethodName} {cc' : ByteArray} {nL' : Nat} {ret' : Option FieldType} {d' : Nat} {As : List Value} {b tg N index na : Nat} {x : Option (Int32 × MM)} {f : Int32 → MM → Option α} {r : α} (C : xC B G y cc nL ret d Mc Ms) (cs : xCV y.cls index y' cc' nL' ret' tg N na) (h : bq x f = some r) (hM : ∀ (v : Int32) (σ' : MM), x = some (v, σ') → xMA B y' cc' nL' ret' d' 0 0 (rv B b :: As) σ (some (.int v)) σ') (hT : ∀ (v : Int32) (σ' : MM), x = some (v, σ') → mT σ b = (tg, N)) (hd : d' + 1 ≤ d) (hst : st.length ≤ 8) (hdg : decode cc pc = .ok (.invokevirtual index, 3)) (kk : ∀ (v : Int32) (σ' : MM), f v σ' = some r → xV B G k n σ' (pc + 3) lv (.int v :: st)) (hna : As.length = na := by rfl) (hc : k ≤ Mc := by first | exact Nat.zero_le _ | exact Nat.le_of_ble_eq_true rfl) (hsl : n ≤ Ms := by first | exact Nat.zero_le _ | exact Nat.le_of_ble_eq_true rfl) : xV B G k n σ pc lv (As.reverse ++ rv B b :: st) := by
  obtain ⟨v, σ', e, h⟩ := r_bq h
  exact x_cV C cs hna (hM v σ' e) (hT v σ' e) hd hc hsl hst (fun w e => by cases e; rfl) hdg (kk v σ' h)
theorem r_callSI {α : Type} {y' : MethodName} {cc' : ByteArray} {nL' : Nat} {ret' : Option FieldType} {d' : Nat} {As : List Value} {index na : Nat} {x : Option (Int32 × MM)} {f : Int32 → MM → Option α} {r : α} (C : xC B G y cc nL ret d Mc Ms) (cs : xCS y.cls index y' cc' nL' ret' na) (h : bq x f = some r) (hM : ∀ (v : Int32) (σ' : MM), x = some (v, σ') → xMA B y' cc' nL' ret' d' 0 0 As σ (some (.int v)) σ') (hd : d' + 1 ≤ d) (hst : st.length ≤ 8) (hdg : decode cc pc = .ok (.invokestatic index, 3)) (kk : ∀ (v : Int32) (σ' : MM), f v σ' = some r → xV B G k n σ' (pc + 3) lv (.int v :: st)) (hna : As.length = na := by rfl) (hc : k ≤ Mc := by first | exact Nat.zero_le _ | exact Nat.le_of_ble_eq_true rfl) (hsl : n ≤ Ms := by first | exact Nat.zero_le _ | exact Nat.le_of_ble_eq_true rfl) : xV B G k n σ pc lv (As.reverse ++ st) := by
  obtain ⟨v, σ', e, h⟩ := r_bq h
  exact x_cS C cs hna (hM v σ' e) hd hc hsl hst (fun w e => by cases e; rfl) hdg (kk v σ' h)
theorem r_callVP {α : Type} {y' : MethodName} {cc' : ByteArray} {nL' : Nat} {ret' : Option FieldType} {d' : Nat} {As : List Value} {b tg N index na : Nat} {x : Option (Nat × MM)} {f : Nat → MM → Option α} {r : α} (C : xC B G y cc nL ret d Mc Ms) (cs : xCV y.cls index y' cc' nL' ret' tg N na) (h : bq x f = some r) (hM : ∀ (v : Nat) (σ' : MM), x = some (v, σ') → xMA B y' cc' nL' ret' d' 0 0 (rv B b :: As) σ (some (rv B v)) σ') (hT : ∀ (v : Nat) (σ' : MM), x = some (v, σ') → mT σ b = (tg, N)) (hd : d' + 1 ≤ d) (hst : st.length ≤ 8) (hdg : decode cc pc = .ok (.invokevirtual index, 3)) (kk : ∀ (v : Nat) (σ' : MM), f v σ' = some r → xV B G k n σ' (pc + 3) lv (rv B v :: st)) (hna : As.length = na := by rfl) (hc : k ≤ Mc := by first | exact Nat.zero_le _ | exact Nat.le_of_ble_eq_true rfl) (hsl : n ≤ Ms := by first | exact Nat.zero_le _ | exact Nat.le_of_ble_eq_true rfl) : xV B G k n σ pc lv (As.reverse ++ rv B b :: st) := by
  obtain ⟨v, σ', e, h⟩ := r_bq h
  exact x_cV C cs hna (hM v σ' e) (hT v σ' e) hd hc hsl hst (fun w e => by cases e; exact rv_cat _ _) hdg (kk v σ' h)
theorem r_callSP {α : Type} {y' : MethodName} {cc' : ByteArray} {nL' : Nat} {ret' : Option FieldType} {d' : Nat} {As : List Value} {index na : Nat} {x : Option (Nat × MM)} {f : Nat → MM → Option α} {r : α} (C : xC B G y cc nL ret d Mc Ms) (cs : xCS y.cls index y' cc' nL' ret' na) (h : bq x f = some r) (hM : ∀ (v : Nat) (σ' : MM), x = some (v, σ') → xMA B y' cc' nL' ret' d' 0 0 As σ (some (rv B v)) σ') (hd : d' + 1 ≤ d) (hst : st.length ≤ 8) (hdg : decode cc pc = .ok (.invokestatic index, 3)) (kk : ∀ (v : Nat) (σ' : MM), f v σ' = some r → xV B G k n σ' (pc + 3) lv (rv B v :: st)) (hna : As.length = na := by rfl) (hc : k ≤ Mc := by first | exact Nat.zero_le _ | exact Nat.le_of_ble_eq_true rfl) (hsl : n ≤ Ms := by first | exact Nat.zero_le _ | exact Nat.le_of_ble_eq_true rfl) : xV B G k n σ pc lv (As.reverse ++ st) := by
  obtain ⟨v, σ', e, h⟩ := r_bq h
  exact x_cS C cs hna (hM v σ' e) hd hc hsl hst (fun w e => by cases e; exact rv_cat _ _) hdg (kk v σ' h)
theorem r_callVV {α : Type} {y' : MethodName} {cc' : ByteArray} {nL' : Nat} {ret' : Option FieldType} {d' : Nat} {As : List Value} {b tg N index na : Nat} {x : Option MM} {f : MM → Option α} {r : α} (C : xC B G y cc nL ret d Mc Ms) (cs : xCV y.cls index y' cc' nL' ret' tg N na) (h : x.bind f = some r) (hM : ∀ (σ' : MM), x = some σ' → xMA B y' cc' nL' ret' d' 0 0 (rv B b :: As) σ none σ') (hT : ∀ (σ' : MM), x = some σ' → mT σ b = (tg, N)) (hd : d' + 1 ≤ d) (hst : st.length ≤ 8) (hdg : decode cc pc = .ok (.invokevirtual index, 3)) (kk : ∀ (σ' : MM), f σ' = some r → xV B G k n σ' (pc + 3) lv st) (hna : As.length = na := by rfl) (hc : k ≤ Mc := by first | exact Nat.zero_le _ | exact Nat.le_of_ble_eq_true rfl) (hsl : n ≤ Ms := by first | exact Nat.zero_le _ | exact Nat.le_of_ble_eq_true rfl) : xV B G k n σ pc lv (As.reverse ++ rv B b :: st) := by
  obtain ⟨σ', e, h⟩ := r_bm h
  exact x_cV C cs hna (hM σ' e) (hT σ' e) hd hc hsl hst (fun w e => by cases e) hdg (kk σ' h)
theorem r_callSV {α : Type} {y' : MethodName} {cc' : ByteArray} {nL' : Nat} {ret' : Option FieldType} {d' : Nat} {As : List Value} {index na : Nat} {x : Option MM} {f : MM → Option α} {r : α} (C : xC B G y cc nL ret d Mc Ms) (cs : xCS y.cls index y' cc' nL' ret' na) (h : x.bind f = some r) (hM : ∀ (σ' : MM), x = some σ' → xMA B y' cc' nL' ret' d' 0 0 As σ none σ') (hd : d' + 1 ≤ d) (hst : st.length ≤ 8) (hdg : decode cc pc = .ok (.invokestatic index, 3)) (kk : ∀ (σ' : MM), f σ' = some r → xV B G k n σ' (pc + 3) lv st) (hna : As.length = na := by rfl) (hc : k ≤ Mc := by first | exact Nat.zero_le _ | exact Nat.le_of_ble_eq_true rfl) (hsl : n ≤ Ms := by first | exact Nat.zero_le _ | exact Nat.le_of_ble_eq_true rfl) : xV B G k n σ pc lv (As.reverse ++ st) := by
  obtain ⟨σ', e, h⟩ := r_bm h
  exact x_cS C cs hna (hM σ' e) hd hc hsl hst (fun w e => by cases e) hdg (kk σ' h)
theorem r_zretL {v rf : Int32} {σf : MM} (C : xC B G y cc nL ret d Mc Ms) (hr : ret = some .boolean) (hdg : decode cc pc = .ok (.ireturn, 1)) (hv : v = 0 ∨ v = 1) (h : some (v, σ) = some (rf, σf)) (E : xEnd B G (some (.int rf)) σf k n) : xV B G k n σ pc lv [.int v] := by
  refine r_zret C hr hdg ?_ E
  unfold rz
  rw [if_pos hv]
  exact h
/-- the default of a switch, for its holes too -/
theorem r_dfl {tgt : Nat} {v : Value} (hD : xV B G k n σ tgt lv st) (kk : xV B G k n σ tgt lv st → xV B G k n σ pc lv (v :: st)) : xV B G k n σ pc lv (v :: st) := kk hD
theorem r_ldc_w {index : Nat} {v : Int32} (C : xC B G y cc nL ret d Mc Ms) (hw : Cond.constant y.cls index v ∈ lw_all) (hdg : decode cc pc = .ok (.ldc_w index, 3)) (kk : xV B G k n σ (pc + 3) lv (.int v :: st)) : xV B G k n σ pc lv st := by
  obtain ⟨p, l, e, R, s, m, args, below, meth, c, D, tA, HB, Q⟩ := G
  intro H locs ls hZ hL hl hk hs
  exact lv_ldcw C.1 C.2.1 C.2.2.2.2.2.1 (C.2.2.2.2.2.2.1 _ hw) hdg (kk H locs ls hZ hL hl hk (cat_int hs))
def ushr (x z : Int32) : Int32 := (x.toUInt32 >>> (z.toUInt32 &&& Int32.toUInt32 31)).toInt32
theorem r_iushr {x z : Int32} (C : xC B G y cc nL ret d Mc Ms) (hdg : decode cc pc = .ok (.iushr, 1)) (kk : xV B G k n σ (pc + 1) lv (.int (ushr x z) :: st)) : xV B G k n σ pc lv (.int z :: .int x :: st) := by
  obtain ⟨p, l, e, R, s, m, args, below, meth, c, D, tA, HB, Q⟩ := G
  intro H locs ls hZ hL hl hk hs
  exact lv_iushr C.1 C.2.1 hdg rfl (kk H locs ls hZ hL hl hk (cat_int (cat_tl (cat_tl hs))))
end XROWS6
