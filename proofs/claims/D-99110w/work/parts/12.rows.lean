/-! ROWS: an instruction each -/
/-- what the tables say of a field of an object of tag tg, as the class 'own' links it -/
def xFg (own : String) (index tg N j : Nat) : Prop := ∃ q : vw_C, mCl[tg]? = some q ∧ q.2.2 = N ∧ tg < 15 ∧ j < N ∧ (∀ w ∈ u_ws q.1 q.2.1 q.2.2, w ∈ lw_all) ∧ (Cond.fieldLink own index (q.2.1 j).1 (q.2.1 j).2.1 (q.2.1 j).2.2.1 ∈ lw_all ∨ ∃ host : String, Cond.fieldLinkNest own index (q.2.1 j).1 (q.2.1 j).2.1 (q.2.1 j).2.2.1 host ∈ lw_nest)
section XROWS2
variable {B : Nat} {G : XG} {y : MethodName} {cc : ByteArray} {nL : Nat} {ret : Option FieldType} {d Mc Ms : Nat} {k n : Nat} {σ : MM} {pc : Nat} {lv : LV} {st : List Value}
theorem r_iconst {x : Int} {v : Int32} (C : xC B G y cc nL ret d Mc Ms) (hdg : decode cc pc = .ok (.iconst x, 1)) (hv : Int32.ofInt x = v) (kk : xV B G k n σ (pc + 1) lv (.int v :: st)) : xV B G k n σ pc lv st := by
  obtain ⟨p, l, e, R, s, m, args, below, meth, c, D, tA, HB, Q⟩ := G
  intro H locs ls hZ hL hl hk hs
  exact lv_iconst C.1 C.2.1 hdg hv (kk H locs ls hZ hL hl hk (cat_int hs))
theorem r_bipush {x : Int} {v : Int32} (C : xC B G y cc nL ret d Mc Ms) (hdg : decode cc pc = .ok (.bipush x, 2)) (hv : (Int8.ofInt x).toInt32 = v) (kk : xV B G k n σ (pc + 2) lv (.int v :: st)) : xV B G k n σ pc lv st := by
  obtain ⟨p, l, e, R, s, m, args, below, meth, c, D, tA, HB, Q⟩ := G
  intro H locs ls hZ hL hl hk hs
  exact lv_bipush C.1 C.2.1 hdg hv (kk H locs ls hZ hL hl hk (cat_int hs))
theorem r_sipush {x : Int} {v : Int32} (C : xC B G y cc nL ret d Mc Ms) (hdg : decode cc pc = .ok (.sipush x, 3)) (hv : (Int16.ofInt x).toInt32 = v) (kk : xV B G k n σ (pc + 3) lv (.int v :: st)) : xV B G k n σ pc lv st := by
  obtain ⟨p, l, e, R, s, m, args, below, meth, c, D, tA, HB, Q⟩ := G
  intro H locs ls hZ hL hl hk hs
  exact lv_sipush C.1 C.2.1 hdg hv (kk H locs ls hZ hL hl hk (cat_int hs))
theorem r_ldc {index : Nat} {v : Int32} (C : xC B G y cc nL ret d Mc Ms) (hw : Cond.constant y.cls index v ∈ lw_all) (hdg : decode cc pc = .ok (.ldc index, 2)) (kk : xV B G k n σ (pc + 2) lv (.int v :: st)) : xV B G k n σ pc lv st := by
  obtain ⟨p, l, e, R, s, m, args, below, meth, c, D, tA, HB, Q⟩ := G
  intro H locs ls hZ hL hl hk hs
  exact lv_ldc C.1 C.2.1 C.2.2.2.2.2.1 (C.2.2.2.2.2.2.1 _ hw) hdg (kk H locs ls hZ hL hl hk (cat_int hs))
theorem r_null  (C : xC B G y cc nL ret d Mc Ms) (hdg : decode cc pc = .ok (.aconst_null, 1)) (kk : xV B G k n σ (pc + 1) lv (rv B 0 :: st)) : xV B G k n σ pc lv st := by
  obtain ⟨p, l, e, R, s, m, args, below, meth, c, D, tA, HB, Q⟩ := G
  intro H locs ls hZ hL hl hk hs
  exact lv_null C.1 C.2.1 hdg (kk H locs ls hZ hL hl hk (cat_rv hs))
theorem r_iload_n {q : Fin 4} {i : Nat} {x : Int32} (C : xC B G y cc nL ret d Mc Ms) (hdg : decode cc pc = .ok (.iload_n q, 1)) (hi : (q : Nat) = i) (hg : lvGet lv i = some (.int x)) (kk : xV B G k n σ (pc + 1) lv (.int x :: st)) : xV B G k n σ pc lv st := by
  obtain ⟨p, l, e, R, s, m, args, below, meth, c, D, tA, HB, Q⟩ := G
  intro H locs ls hZ hL hl hk hs
  exact lv_iload_n C.1 C.2.1 hdg hi (lvGet_at hl hg) (kk H locs ls hZ hL hl hk (cat_int hs))
theorem r_iload {i : Nat} {x : Int32} (C : xC B G y cc nL ret d Mc Ms) (hdg : decode cc pc = .ok (.iload i, 2)) (hg : lvGet lv i = some (.int x)) (kk : xV B G k n σ (pc + 2) lv (.int x :: st)) : xV B G k n σ pc lv st := by
  obtain ⟨p, l, e, R, s, m, args, below, meth, c, D, tA, HB, Q⟩ := G
  intro H locs ls hZ hL hl hk hs
  exact lv_iload C.1 C.2.1 hdg (lvGet_at hl hg) (kk H locs ls hZ hL hl hk (cat_int hs))
theorem r_aload_n {q : Fin 4} {i : Nat} {a : Nat} (C : xC B G y cc nL ret d Mc Ms) (hdg : decode cc pc = .ok (.aload_n q, 1)) (hi : (q : Nat) = i) (hg : lvGet lv i = some (rv B a)) (kk : xV B G k n σ (pc + 1) lv (rv B a :: st)) : xV B G k n σ pc lv st := by
  obtain ⟨p, l, e, R, s, m, args, below, meth, c, D, tA, HB, Q⟩ := G
  intro H locs ls hZ hL hl hk hs
  have h9 := kk H locs ls hZ hL hl hk (cat_rv (p := a) hs)
  have hg := lvGet_at hl hg
  by_cases ha : a = 0
  · subst ha
    exact lv_aload_nN C.1 C.2.1 hdg hi hg h9
  · rw [rv_pos ha] at hg h9
    exact lv_aload_n C.1 C.2.1 hdg hi hg h9
theorem r_aload {i : Nat} {a : Nat} (C : xC B G y cc nL ret d Mc Ms) (hdg : decode cc pc = .ok (.aload i, 2)) (hg : lvGet lv i = some (rv B a)) (kk : xV B G k n σ (pc + 2) lv (rv B a :: st)) : xV B G k n σ pc lv st := by
  obtain ⟨p, l, e, R, s, m, args, below, meth, c, D, tA, HB, Q⟩ := G
  intro H locs ls hZ hL hl hk hs
  have h9 := kk H locs ls hZ hL hl hk (cat_rv (p := a) hs)
  have hg := lvGet_at hl hg
  by_cases ha : a = 0
  · subst ha
    exact lv_aloadN C.1 C.2.1 hdg hg h9
  · rw [rv_pos ha] at hg h9
    exact lv_aload C.1 C.2.1 hdg hg h9
theorem r_istore_n {q : Fin 4} {i : Nat} {x : Int32} (C : xC B G y cc nL ret d Mc Ms) (hdg : decode cc pc = .ok (.istore_n q, 1)) (hi : (q : Nat) = i) (hn : i < nL) (kk : xV B G k n σ (pc + 1) (lvSet lv i (.int x)) st) : xV B G k n σ pc lv (.int x :: st) := by
  obtain ⟨p, l, e, R, s, m, args, below, meth, c, D, tA, HB, Q⟩ := G
  intro H locs ls hZ hL hl hk hs
  refine lv_istore_n C.1 C.2.1 hdg hi hl (by rw [C.2.2.2.2.1]; exact hn) (lvSet_eq hk) (fun ls hl => ?_)
  exact kk H locs ls hZ hL hl (lvSet_ok hk rfl) (cat_tl hs)
theorem r_istore {i : Nat} {x : Int32} (C : xC B G y cc nL ret d Mc Ms) (hdg : decode cc pc = .ok (.istore i, 2)) (hn : i < nL) (kk : xV B G k n σ (pc + 2) (lvSet lv i (.int x)) st) : xV B G k n σ pc lv (.int x :: st) := by
  obtain ⟨p, l, e, R, s, m, args, below, meth, c, D, tA, HB, Q⟩ := G
  intro H locs ls hZ hL hl hk hs
  refine lv_istore C.1 C.2.1 hdg hl (by rw [C.2.2.2.2.1]; exact hn) (lvSet_eq hk) (fun ls hl => ?_)
  exact kk H locs ls hZ hL hl (lvSet_ok hk rfl) (cat_tl hs)
theorem r_astore_n {q : Fin 4} {i : Nat} {a : Nat} (C : xC B G y cc nL ret d Mc Ms) (hdg : decode cc pc = .ok (.astore_n q, 1)) (hi : (q : Nat) = i) (hn : i < nL) (kk : xV B G k n σ (pc + 1) (lvSet lv i (rv B a)) st) : xV B G k n σ pc lv (rv B a :: st) := by
  obtain ⟨p, l, e, R, s, m, args, below, meth, c, D, tA, HB, Q⟩ := G
  intro H locs ls hZ hL hl hk hs
  have hn2 : i < c.maxLocals := by rw [C.2.2.2.2.1]; exact hn
  by_cases ha : a = 0
  · subst ha
    refine lv_astore_nN C.1 C.2.1 hdg hi hl hn2 (lvSet_eq hk) (fun ls hl => ?_)
    exact kk H locs ls hZ hL hl (lvSet_ok hk rfl) (cat_tl hs)
  · have h9 := fun ls hl => kk H locs ls hZ hL hl (lvSet_ok hk (rv_cat B a)) (cat_tl hs)
    rw [rv_pos ha] at h9 ⊢
    exact lv_astore_n C.1 C.2.1 hdg hi hl hn2 (lvSet_eq hk) (fun ls hl => h9 ls hl)
theorem r_astore {i : Nat} {a : Nat} (C : xC B G y cc nL ret d Mc Ms) (hdg : decode cc pc = .ok (.astore i, 2)) (hn : i < nL) (kk : xV B G k n σ (pc + 2) (lvSet lv i (rv B a)) st) : xV B G k n σ pc lv (rv B a :: st) := by
  obtain ⟨p, l, e, R, s, m, args, below, meth, c, D, tA, HB, Q⟩ := G
  intro H locs ls hZ hL hl hk hs
  have hn2 : i < c.maxLocals := by rw [C.2.2.2.2.1]; exact hn
  by_cases ha : a = 0
  · subst ha
    refine lv_astoreN C.1 C.2.1 hdg hl hn2 (lvSet_eq hk) (fun ls hl => ?_)
    exact kk H locs ls hZ hL hl (lvSet_ok hk rfl) (cat_tl hs)
  · have h9 := fun ls hl => kk H locs ls hZ hL hl (lvSet_ok hk (rv_cat B a)) (cat_tl hs)
    rw [rv_pos ha] at h9 ⊢
    exact lv_astore C.1 C.2.1 hdg hl hn2 (lvSet_eq hk) (fun ls hl => h9 ls hl)
theorem r_iinc {i : Nat} {z : Int} {x v : Int32} (C : xC B G y cc nL ret d Mc Ms) (hdg : decode cc pc = .ok (.iinc i z, 3)) (hg : lvGet lv i = some (.int x)) (hv : x + Int32.ofInt z = v) (hn : i < nL) (kk : xV B G k n σ (pc + 3) (lvSet lv i (.int v)) st) : xV B G k n σ pc lv st := by
  obtain ⟨p, l, e, R, s, m, args, below, meth, c, D, tA, HB, Q⟩ := G
  intro H locs ls hZ hL hl hk hs
  obtain ⟨j, hj⟩ := List.getElem?_of_mem (lvGet_mem hg)
  refine lv_iinc C.1 C.2.1 hdg hl hj hv (by rw [C.2.2.2.2.1]; exact hn) (lvSet_eq hk) (fun ls hl => ?_)
  exact kk H locs ls hZ hL hl (lvSet_ok hk rfl) hs
theorem r_iadd {x z : Int32} (C : xC B G y cc nL ret d Mc Ms) (hdg : decode cc pc = .ok (.iadd, 1)) (kk : xV B G k n σ (pc + 1) lv (.int (x + z) :: st)) : xV B G k n σ pc lv (.int z :: .int x :: st) := by
  obtain ⟨p, l, e, R, s, m, args, below, meth, c, D, tA, HB, Q⟩ := G
  intro H locs ls hZ hL hl hk hs
  exact lv_iadd C.1 C.2.1 hdg (kk H locs ls hZ hL hl hk (cat_int (cat_tl (cat_tl hs))))
theorem r_isub {x z : Int32} (C : xC B G y cc nL ret d Mc Ms) (hdg : decode cc pc = .ok (.isub, 1)) (kk : xV B G k n σ (pc + 1) lv (.int (x - z) :: st)) : xV B G k n σ pc lv (.int z :: .int x :: st) := by
  obtain ⟨p, l, e, R, s, m, args, below, meth, c, D, tA, HB, Q⟩ := G
  intro H locs ls hZ hL hl hk hs
  exact lv_isub C.1 C.2.1 hdg (kk H locs ls hZ hL hl hk (cat_int (cat_tl (cat_tl hs))))
theorem r_imul {x z : Int32} (C : xC B G y cc nL ret d Mc Ms) (hdg : decode cc pc = .ok (.imul, 1)) (kk : xV B G k n σ (pc + 1) lv (.int (x * z) :: st)) : xV B G k n σ pc lv (.int z :: .int x :: st) := by
  obtain ⟨p, l, e, R, s, m, args, below, meth, c, D, tA, HB, Q⟩ := G
  intro H locs ls hZ hL hl hk hs
  exact lv_imul C.1 C.2.1 hdg (kk H locs ls hZ hL hl hk (cat_int (cat_tl (cat_tl hs))))
theorem r_iand {x z : Int32} (C : xC B G y cc nL ret d Mc Ms) (hdg : decode cc pc = .ok (.iand, 1)) (kk : xV B G k n σ (pc + 1) lv (.int (x &&& z) :: st)) : xV B G k n σ pc lv (.int z :: .int x :: st) := by
  obtain ⟨p, l, e, R, s, m, args, below, meth, c, D, tA, HB, Q⟩ := G
  intro H locs ls hZ hL hl hk hs
  exact lv_iand C.1 C.2.1 hdg (kk H locs ls hZ hL hl hk (cat_int (cat_tl (cat_tl hs))))
theorem r_ior {x z : Int32} (C : xC B G y cc nL ret d Mc Ms) (hdg : decode cc pc = .ok (.ior, 1)) (kk : xV B G k n σ (pc + 1) lv (.int (x ||| z) :: st)) : xV B G k n σ pc lv (.int z :: .int x :: st) := by
  obtain ⟨p, l, e, R, s, m, args, below, meth, c, D, tA, HB, Q⟩ := G
  intro H locs ls hZ hL hl hk hs
  exact lv_ior C.1 C.2.1 hdg (kk H locs ls hZ hL hl hk (cat_int (cat_tl (cat_tl hs))))
theorem r_ixor {x z : Int32} (C : xC B G y cc nL ret d Mc Ms) (hdg : decode cc pc = .ok (.ixor, 1)) (kk : xV B G k n σ (pc + 1) lv (.int (x ^^^ z) :: st)) : xV B G k n σ pc lv (.int z :: .int x :: st) := by
  obtain ⟨p, l, e, R, s, m, args, below, meth, c, D, tA, HB, Q⟩ := G
  intro H locs ls hZ hL hl hk hs
  exact lv_ixor C.1 C.2.1 hdg (kk H locs ls hZ hL hl hk (cat_int (cat_tl (cat_tl hs))))
theorem r_ishl {x z : Int32} (C : xC B G y cc nL ret d Mc Ms) (hdg : decode cc pc = .ok (.ishl, 1)) (kk : xV B G k n σ (pc + 1) lv (.int (x <<< (z &&& 31)) :: st)) : xV B G k n σ pc lv (.int z :: .int x :: st) := by
  obtain ⟨p, l, e, R, s, m, args, below, meth, c, D, tA, HB, Q⟩ := G
  intro H locs ls hZ hL hl hk hs
  exact lv_ishl C.1 C.2.1 hdg (kk H locs ls hZ hL hl hk (cat_int (cat_tl (cat_tl hs))))
theorem r_ishr {x z : Int32} (C : xC B G y cc nL ret d Mc Ms) (hdg : decode cc pc = .ok (.ishr, 1)) (kk : xV B G k n σ (pc + 1) lv (.int (x >>> (z &&& 31)) :: st)) : xV B G k n σ pc lv (.int z :: .int x :: st) := by
  obtain ⟨p, l, e, R, s, m, args, below, meth, c, D, tA, HB, Q⟩ := G
  intro H locs ls hZ hL hl hk hs
  exact lv_ishr C.1 C.2.1 hdg (kk H locs ls hZ hL hl hk (cat_int (cat_tl (cat_tl hs))))
theorem r_ineg {x : Int32} (C : xC B G y cc nL ret d Mc Ms) (hdg : decode cc pc = .ok (.ineg, 1)) (kk : xV B G k n σ (pc + 1) lv (.int (-x) :: st)) : xV B G k n σ pc lv (.int x :: st) := by
  obtain ⟨p, l, e, R, s, m, args, below, meth, c, D, tA, HB, Q⟩ := G
  intro H locs ls hZ hL hl hk hs
  exact lv_ineg C.1 C.2.1 hdg (kk H locs ls hZ hL hl hk (cat_int (cat_tl hs)))
theorem r_i2b {x : Int32} (C : xC B G y cc nL ret d Mc Ms) (hdg : decode cc pc = .ok (.i2b, 1)) (kk : xV B G k n σ (pc + 1) lv (.int x.toInt8.toInt32 :: st)) : xV B G k n σ pc lv (.int x :: st) := by
  obtain ⟨p, l, e, R, s, m, args, below, meth, c, D, tA, HB, Q⟩ := G
  intro H locs ls hZ hL hl hk hs
  exact lv_i2b C.1 C.2.1 hdg rfl (kk H locs ls hZ hL hl hk (cat_int (cat_tl hs)))
theorem r_idiv {α : Type} {x z : Int32} {f : Int32 → Option α} {r : α} (C : xC B G y cc nL ret d Mc Ms) (hdg : decode cc pc = .ok (.idiv, 1)) (h : (dv x z).bind f = some r) (kk : ∀ v, f v = some r → xV B G k n σ (pc + 1) lv (.int v :: st)) : xV B G k n σ pc lv (.int z :: .int x :: st) := by
  obtain ⟨p, l, e, R, s, m, args, below, meth, c, D, tA, HB, Q⟩ := G
  intro H locs ls hZ hL hl hk hs
  unfold dv at h
  by_cases hz : z = 0
  · rw [if_pos hz] at h; cases h
  · rw [if_neg hz] at h
    exact lv_idiv C.1 C.2.1 hdg hz (kk _ h H locs ls hZ hL hl hk (cat_int (cat_tl (cat_tl hs))))
theorem r_irem {α : Type} {x z : Int32} {f : Int32 → Option α} {r : α} (C : xC B G y cc nL ret d Mc Ms) (hdg : decode cc pc = .ok (.irem, 1)) (h : (rm_ x z).bind f = some r) (kk : ∀ v, f v = some r → xV B G k n σ (pc + 1) lv (.int v :: st)) : xV B G k n σ pc lv (.int z :: .int x :: st) := by
  obtain ⟨p, l, e, R, s, m, args, below, meth, c, D, tA, HB, Q⟩ := G
  intro H locs ls hZ hL hl hk hs
  unfold rm_ at h
  by_cases hz : z = 0
  · rw [if_pos hz] at h; cases h
  · rw [if_neg hz] at h
    exact lv_irem C.1 C.2.1 hdg hz (kk _ h H locs ls hZ hL hl hk (cat_int (cat_tl (cat_tl hs))))
theorem r_dup {v : Value} (C : xC B G y cc nL ret d Mc Ms) (hdg : decode cc pc = .ok (.dup, 1)) (kk : xV B G k n σ (pc + 1) lv (v :: v :: st)) : xV B G k n σ pc lv (v :: st) := by
  obtain ⟨p, l, e, R, s, m, args, below, meth, c, D, tA, HB, Q⟩ := G
  intro H locs ls hZ hL hl hk hs
  exact lv_dup C.1 C.2.1 hdg (cat_hd hs) (kk H locs ls hZ hL hl hk (cat_cons (cat_hd hs) hs))
theorem r_dup2 {v w : Value} (C : xC B G y cc nL ret d Mc Ms) (hdg : decode cc pc = .ok (.dup2, 1)) (kk : xV B G k n σ (pc + 1) lv (v :: w :: v :: w :: st)) : xV B G k n σ pc lv (v :: w :: st) := by
  obtain ⟨p, l, e, R, s, m, args, below, meth, c, D, tA, HB, Q⟩ := G
  intro H locs ls hZ hL hl hk hs
  exact lv_dup2_11 C.1 C.2.1 hdg (cat_hd hs) (cat_hd (cat_tl hs)) (kk H locs ls hZ hL hl hk (cat_cons (cat_hd hs) (cat_cons (cat_hd (cat_tl hs)) hs)))
theorem r_pop {v : Value} (C : xC B G y cc nL ret d Mc Ms) (hdg : decode cc pc = .ok (.pop, 1)) (kk : xV B G k n σ (pc + 1) lv st) : xV B G k n σ pc lv (v :: st) := by
  obtain ⟨p, l, e, R, s, m, args, below, meth, c, D, tA, HB, Q⟩ := G
  intro H locs ls hZ hL hl hk hs
  exact lv_pop C.1 C.2.1 hdg (cat_hd hs) (kk H locs ls hZ hL hl hk (cat_tl hs))
theorem r_goto {off : Int} {tgt : Nat} (C : xC B G y cc nL ret d Mc Ms) (hdg : decode cc pc = .ok (.goto off, 3)) (ht : (pc : Int) + off = (tgt : Int)) (kk : xV B G k n σ tgt lv st) : xV B G k n σ pc lv st := by
  obtain ⟨p, l, e, R, s, m, args, below, meth, c, D, tA, HB, Q⟩ := G
  intro H locs ls hZ hL hl hk hs
  exact lv_goto C.1 C.2.1 hdg ht (kk H locs ls hZ hL hl hk hs)
theorem r_ifeq {α : Type} {x : Int32} {off : Int} {tgt : Nat} {a b : Option α} {r : α} (C : xC B G y cc nL ret d Mc Ms) (hdg : decode cc pc = .ok (.ifCond .eq off, 3)) (ht : (pc : Int) + off = (tgt : Int)) (h : (if x = 0 then a else b) = some r) (kt : a = some r → xV B G k n σ tgt lv st) (kf : b = some r → xV B G k n σ (pc + 3) lv st) : xV B G k n σ pc lv (.int x :: st) := by
  obtain ⟨p, l, e, R, s, m, args, below, meth, c, D, tA, HB, Q⟩ := G
  intro H locs ls hZ hL hl hk hs
  exact lv_if_eq C.1 C.2.1 hdg ht (fun q => kt (by rw [if_pos q] at h; exact h) H locs ls hZ hL hl hk (cat_tl hs)) (fun q => kf (by rw [if_neg q] at h; exact h) H locs ls hZ hL hl hk (cat_tl hs))
theorem r_ifne {α : Type} {x : Int32} {off : Int} {tgt : Nat} {a b : Option α} {r : α} (C : xC B G y cc nL ret d Mc Ms) (hdg : decode cc pc = .ok (.ifCond .ne off, 3)) (ht : (pc : Int) + off = (tgt : Int)) (h : (if x = 0 then a else b) = some r) (kf : b = some r → xV B G k n σ tgt lv st) (kt : a = some r → xV B G k n σ (pc + 3) lv st) : xV B G k n σ pc lv (.int x :: st) := by
  obtain ⟨p, l, e, R, s, m, args, below, meth, c, D, tA, HB, Q⟩ := G
  intro H locs ls hZ hL hl hk hs
  exact lv_if_ne C.1 C.2.1 hdg ht (fun q => kf (by rw [if_neg q] at h; exact h) H locs ls hZ hL hl hk (cat_tl hs)) (fun q => kt (by rw [if_pos q] at h; exact h) H locs ls hZ hL hl hk (cat_tl hs))
theorem r_iflt {α : Type} {x : Int32} {off : Int} {tgt : Nat} {a b : Option α} {r : α} (C : xC B G y cc nL ret d Mc Ms) (hdg : decode cc pc = .ok (.ifCond .lt off, 3)) (ht : (pc : Int) + off = (tgt : Int)) (h : (if x < 0 then a else b) = some r) (kt : a = some r → xV B G k n σ tgt lv st) (kf : b = some r → xV B G k n σ (pc + 3) lv st) : xV B G k n σ pc lv (.int x :: st) := by
  obtain ⟨p, l, e, R, s, m, args, below, meth, c, D, tA, HB, Q⟩ := G
  intro H locs ls hZ hL hl hk hs
  exact lv_if_lt C.1 C.2.1 hdg ht (fun q => kt (by rw [if_pos q] at h; exact h) H locs ls hZ hL hl hk (cat_tl hs)) (fun q => kf (by rw [if_neg q] at h; exact h) H locs ls hZ hL hl hk (cat_tl hs))
theorem r_ifge {α : Type} {x : Int32} {off : Int} {tgt : Nat} {a b : Option α} {r : α} (C : xC B G y cc nL ret d Mc Ms) (hdg : decode cc pc = .ok (.ifCond .ge off, 3)) (ht : (pc : Int) + off = (tgt : Int)) (h : (if x < 0 then a else b) = some r) (kf : b = some r → xV B G k n σ tgt lv st) (kt : a = some r → xV B G k n σ (pc + 3) lv st) : xV B G k n σ pc lv (.int x :: st) := by
  obtain ⟨p, l, e, R, s, m, args, below, meth, c, D, tA, HB, Q⟩ := G
  intro H locs ls hZ hL hl hk hs
  exact lv_if_ge C.1 C.2.1 hdg ht (fun q => have q : ¬ x < 0 := Int32.not_lt.mpr q; kf (by rw [if_neg q] at h; exact h) H locs ls hZ hL hl hk (cat_tl hs)) (fun q => have q : x < 0 := Int32.not_le.mp q; kt (by rw [if_pos q] at h; exact h) H locs ls hZ hL hl hk (cat_tl hs))
theorem r_ifgt {α : Type} {x : Int32} {off : Int} {tgt : Nat} {a b : Option α} {r : α} (C : xC B G y cc nL ret d Mc Ms) (hdg : decode cc pc = .ok (.ifCond .gt off, 3)) (ht : (pc : Int) + off = (tgt : Int)) (h : (if 0 < x then a else b) = some r) (kt : a = some r → xV B G k n σ tgt lv st) (kf : b = some r → xV B G k n σ (pc + 3) lv st) : xV B G k n σ pc lv (.int x :: st) := by
  obtain ⟨p, l, e, R, s, m, args, below, meth, c, D, tA, HB, Q⟩ := G
  intro H locs ls hZ hL hl hk hs
  exact lv_if_gt C.1 C.2.1 hdg ht (fun q => kt (by rw [if_pos q] at h; exact h) H locs ls hZ hL hl hk (cat_tl hs)) (fun q => kf (by rw [if_neg q] at h; exact h) H locs ls hZ hL hl hk (cat_tl hs))
theorem r_ifle {α : Type} {x : Int32} {off : Int} {tgt : Nat} {a b : Option α} {r : α} (C : xC B G y cc nL ret d Mc Ms) (hdg : decode cc pc = .ok (.ifCond .le off, 3)) (ht : (pc : Int) + off = (tgt : Int)) (h : (if 0 < x then a else b) = some r) (kf : b = some r → xV B G k n σ tgt lv st) (kt : a = some r → xV B G k n σ (pc + 3) lv st) : xV B G k n σ pc lv (.int x :: st) := by
  obtain ⟨p, l, e, R, s, m, args, below, meth, c, D, tA, HB, Q⟩ := G
  intro H locs ls hZ hL hl hk hs
  exact lv_if_le C.1 C.2.1 hdg ht (fun q => have q : ¬ 0 < x := Int32.not_lt.mpr q; kf (by rw [if_neg q] at h; exact h) H locs ls hZ hL hl hk (cat_tl hs)) (fun q => have q : 0 < x := Int32.not_le.mp q; kt (by rw [if_pos q] at h; exact h) H locs ls hZ hL hl hk (cat_tl hs))
theorem r_icmpeq {α : Type} {x z : Int32} {off : Int} {tgt : Nat} {a b : Option α} {r : α} (C : xC B G y cc nL ret d Mc Ms) (hdg : decode cc pc = .ok (.if_icmp .eq off, 3)) (ht : (pc : Int) + off = (tgt : Int)) (h : (if x = z then a else b) = some r) (kt : a = some r → xV B G k n σ tgt lv st) (kf : b = some r → xV B G k n σ (pc + 3) lv st) : xV B G k n σ pc lv (.int z :: .int x :: st) := by
  obtain ⟨p, l, e, R, s, m, args, below, meth, c, D, tA, HB, Q⟩ := G
  intro H locs ls hZ hL hl hk hs
  exact lv_icmp_eq C.1 C.2.1 hdg ht (fun q => kt (by rw [if_pos q] at h; exact h) H locs ls hZ hL hl hk (cat_tl (cat_tl hs))) (fun q => kf (by rw [if_neg q] at h; exact h) H locs ls hZ hL hl hk (cat_tl (cat_tl hs)))
theorem r_icmpne {α : Type} {x z : Int32} {off : Int} {tgt : Nat} {a b : Option α} {r : α} (C : xC B G y cc nL ret d Mc Ms) (hdg : decode cc pc = .ok (.if_icmp .ne off, 3)) (ht : (pc : Int) + off = (tgt : Int)) (h : (if x = z then a else b) = some r) (kf : b = some r → xV B G k n σ tgt lv st) (kt : a = some r → xV B G k n σ (pc + 3) lv st) : xV B G k n σ pc lv (.int z :: .int x :: st) := by
  obtain ⟨p, l, e, R, s, m, args, below, meth, c, D, tA, HB, Q⟩ := G
  intro H locs ls hZ hL hl hk hs
  exact lv_icmp_ne C.1 C.2.1 hdg ht (fun q => kf (by rw [if_neg q] at h; exact h) H locs ls hZ hL hl hk (cat_tl (cat_tl hs))) (fun q => kt (by rw [if_pos q] at h; exact h) H locs ls hZ hL hl hk (cat_tl (cat_tl hs)))
theorem r_icmplt {α : Type} {x z : Int32} {off : Int} {tgt : Nat} {a b : Option α} {r : α} (C : xC B G y cc nL ret d Mc Ms) (hdg : decode cc pc = .ok (.if_icmp .lt off, 3)) (ht : (pc : Int) + off = (tgt : Int)) (h : (if x < z then a else b) = some r) (kt : a = some r → xV B G k n σ tgt lv st) (kf : b = some r → xV B G k n σ (pc + 3) lv st) : xV B G k n σ pc lv (.int z :: .int x :: st) := by
  obtain ⟨p, l, e, R, s, m, args, below, meth, c, D, tA, HB, Q⟩ := G
  intro H locs ls hZ hL hl hk hs
  exact lv_icmp_lt C.1 C.2.1 hdg ht (fun q => kt (by rw [if_pos q] at h; exact h) H locs ls hZ hL hl hk (cat_tl (cat_tl hs))) (fun q => kf (by rw [if_neg q] at h; exact h) H locs ls hZ hL hl hk (cat_tl (cat_tl hs)))
theorem r_icmpge {α : Type} {x z : Int32} {off : Int} {tgt : Nat} {a b : Option α} {r : α} (C : xC B G y cc nL ret d Mc Ms) (hdg : decode cc pc = .ok (.if_icmp .ge off, 3)) (ht : (pc : Int) + off = (tgt : Int)) (h : (if x < z then a else b) = some r) (kf : b = some r → xV B G k n σ tgt lv st) (kt : a = some r → xV B G k n σ (pc + 3) lv st) : xV B G k n σ pc lv (.int z :: .int x :: st) := by
  obtain ⟨p, l, e, R, s, m, args, below, meth, c, D, tA, HB, Q⟩ := G
  intro H locs ls hZ hL hl hk hs
  exact lv_icmp_ge C.1 C.2.1 hdg ht (fun q => have q : ¬ x < z := Int32.not_lt.mpr q; kf (by rw [if_neg q] at h; exact h) H locs ls hZ hL hl hk (cat_tl (cat_tl hs))) (fun q => have q : x < z := Int32.not_le.mp q; kt (by rw [if_pos q] at h; exact h) H locs ls hZ hL hl hk (cat_tl (cat_tl hs)))
theorem r_icmpgt {α : Type} {x z : Int32} {off : Int} {tgt : Nat} {a b : Option α} {r : α} (C : xC B G y cc nL ret d Mc Ms) (hdg : decode cc pc = .ok (.if_icmp .gt off, 3)) (ht : (pc : Int) + off = (tgt : Int)) (h : (if z < x then a else b) = some r) (kt : a = some r → xV B G k n σ tgt lv st) (kf : b = some r → xV B G k n σ (pc + 3) lv st) : xV B G k n σ pc lv (.int z :: .int x :: st) := by
  obtain ⟨p, l, e, R, s, m, args, below, meth, c, D, tA, HB, Q⟩ := G
  intro H locs ls hZ hL hl hk hs
  exact lv_icmp_gt C.1 C.2.1 hdg ht (fun q => kt (by rw [if_pos q] at h; exact h) H locs ls hZ hL hl hk (cat_tl (cat_tl hs))) (fun q => kf (by rw [if_neg q] at h; exact h) H locs ls hZ hL hl hk (cat_tl (cat_tl hs)))
theorem r_icmple {α : Type} {x z : Int32} {off : Int} {tgt : Nat} {a b : Option α} {r : α} (C : xC B G y cc nL ret d Mc Ms) (hdg : decode cc pc = .ok (.if_icmp .le off, 3)) (ht : (pc : Int) + off = (tgt : Int)) (h : (if z < x then a else b) = some r) (kf : b = some r → xV B G k n σ tgt lv st) (kt : a = some r → xV B G k n σ (pc + 3) lv st) : xV B G k n σ pc lv (.int z :: .int x :: st) := by
  obtain ⟨p, l, e, R, s, m, args, below, meth, c, D, tA, HB, Q⟩ := G
  intro H locs ls hZ hL hl hk hs
  exact lv_icmp_le C.1 C.2.1 hdg ht (fun q => have q : ¬ z < x := Int32.not_lt.mpr q; kf (by rw [if_neg q] at h; exact h) H locs ls hZ hL hl hk (cat_tl (cat_tl hs))) (fun q => have q : z < x := Int32.not_le.mp q; kt (by rw [if_pos q] at h; exact h) H locs ls hZ hL hl hk (cat_tl (cat_tl hs)))
theorem r_ifnull {α : Type} {u : Nat} {off : Int} {tgt : Nat} {a b : Option α} {r : α} (C : xC B G y cc nL ret d Mc Ms) (hdg : decode cc pc = .ok (.ifnull off, 3)) (ht : (pc : Int) + off = (tgt : Int)) (h : (if u = 0 then a else b) = some r) (kt : a = some r → xV B G k n σ tgt lv st) (kf : b = some r → xV B G k n σ (pc + 3) lv st) : xV B G k n σ pc lv (rv B u :: st) := by
  obtain ⟨p, l, e, R, s, m, args, below, meth, c, D, tA, HB, Q⟩ := G
  intro H locs ls hZ hL hl hk hs
  by_cases hu : u = 0
  · rw [if_pos hu] at h
    subst hu
    exact lv_ifnullN C.1 C.2.1 hdg ht (kt h H locs ls hZ hL hl hk (cat_tl hs))
  · rw [if_neg hu] at h
    have h9 := kf h H locs ls hZ hL hl hk (cat_tl hs)
    rw [rv_pos hu]
    exact lv_ifnull C.1 C.2.1 hdg h9
theorem r_getI {α : Type} {a index tg N j : Nat} {f : Int32 → Option α} {r : α} (C : xC B G y cc nL ret d Mc Ms) (F : xFg y.cls index tg N j) (hty : (mTy tg j).isReference = false) (hdg : decode cc pc = .ok (.getfield index, 3)) (h : (gI σ a tg N j).bind f = some r) (kk : ∀ v, f v = some r → xV B G k n σ (pc + 3) lv (.int v :: st)) : xV B G k n σ pc lv (rv B a :: st) := by
  obtain ⟨p, l, e, R, s, m, args, below, meth, c, D, tA, HB, Q⟩ := G
  intro H locs ls hZ hL hl hk hs
  unfold gI at h
  by_cases hz : mT σ a = (tg, N)
  · rw [if_pos hz] at h
    obtain ⟨q, hc, hN, h15, hj, hin, hlk⟩ := F
    have h99 : (mT σ a).1 ≠ 99 := by rw [hz]; show tg ≠ 99; omega
    have hP := hZ.at h99
    rw [xE_o hz h15] at hP
    have h9 := kk _ h H locs ls hZ hL hl hk (cat_int (cat_tl hs))
    have hv : ((List.range N).map (xVal B σ a tg))[j]? = some (.int (mI σ a j)) := by
      rw [List.getElem?_map, List.getElem?_range hj]
      show some (xVal B σ a tg j) = _
      unfold xVal
      rw [hty]; rfl
    rw [rv_pos (hZ.ne h99)]
    subst hN
    rcases hlk with hlk | ⟨host, hlk⟩
    · exact va_get (T := q.2.1) C.1 C.2.1 C.2.2.2.2.2.2.1 hin C.2.2.2.2.2.1 C.2.2.2.2.2.2.2.1.1 hP 0 rfl hc j hj (C.2.2.2.2.2.2.1 _ hlk) (fun _ h9 => h9) hv hdg h9
    · exact va_getN (T := q.2.1) C.1 C.2.1 C.2.2.2.2.2.2.1 hin C.2.2.2.2.2.1 C.2.2.2.2.2.2.2.1.1 hP 0 rfl hc j hj (va_Nw.use rfl (C.2.2.2.2.2.2.2.1.2.1 _ hlk)) (fun _ h9 => h9) hv hdg h9
  · rw [if_neg hz] at h; cases h
theorem r_getP {α : Type} {a index tg N j : Nat} {f : Nat → Option α} {r : α} (C : xC B G y cc nL ret d Mc Ms) (F : xFg y.cls index tg N j) (hty : (mTy tg j).isReference = true) (hdg : decode cc pc = .ok (.getfield index, 3)) (h : (gP σ a tg N j).bind f = some r) (kk : ∀ v, f v = some r → xV B G k n σ (pc + 3) lv (rv B v :: st)) : xV B G k n σ pc lv (rv B a :: st) := by
  obtain ⟨p, l, e, R, s, m, args, below, meth, c, D, tA, HB, Q⟩ := G
  intro H locs ls hZ hL hl hk hs
  unfold gP at h
  by_cases hz : mT σ a = (tg, N)
  · rw [if_pos hz] at h
    obtain ⟨q, hc, hN, h15, hj, hin, hlk⟩ := F
    have h99 : (mT σ a).1 ≠ 99 := by rw [hz]; show tg ≠ 99; omega
    have hP := hZ.at h99
    rw [xE_o hz h15] at hP
    have h9 := kk _ h H locs ls hZ hL hl hk (cat_rv (cat_tl hs))
    have hv : ((List.range N).map (xVal B σ a tg))[j]? = some (rv B (mP σ a j)) := by
      rw [List.getElem?_map, List.getElem?_range hj]
      show some (xVal B σ a tg j) = _
      unfold xVal
      rw [hty]; rfl
    rw [rv_pos (hZ.ne h99)]
    subst hN
    rcases hlk with hlk | ⟨host, hlk⟩
    · exact va_get (T := q.2.1) C.1 C.2.1 C.2.2.2.2.2.2.1 hin C.2.2.2.2.2.1 C.2.2.2.2.2.2.2.1.1 hP 0 rfl hc j hj (C.2.2.2.2.2.2.1 _ hlk) (fun _ h9 => h9) hv hdg h9
    · exact va_getN (T := q.2.1) C.1 C.2.1 C.2.2.2.2.2.2.1 hin C.2.2.2.2.2.1 C.2.2.2.2.2.2.2.1.1 hP 0 rfl hc j hj (va_Nw.use rfl (C.2.2.2.2.2.2.2.1.2.1 _ hlk)) (fun _ h9 => h9) hv hdg h9
  · rw [if_neg hz] at h; cases h
theorem r_iret {v rf : Int32} {σf : MM} (C : xC B G y cc nL ret d Mc Ms) (hr : ret = some .int) (hdg : decode cc pc = .ok (.ireturn, 1)) (h : some (v, σ) = some (rf, σf)) (E : xEnd B G (some (.int rf)) σf k n) : xV B G k n σ pc lv [.int v] := by
  obtain ⟨p, l, e, R, s, m, args, below, meth, c, D, tA, HB, Q⟩ := G
  intro H locs ls hZ hL hl hk hs
  cases h
  have E : Q = _ := E
  rw [E]
  exact W.iret C.1 C.2.1 (C.2.2.1.trans hr) (fun t ht _ => ⟨rfl, by rw [ht]; exact hZ⟩) hL hdg C.2.2.2.1
theorem r_zret {v rf : Int32} {σf : MM} (C : xC B G y cc nL ret d Mc Ms) (hr : ret = some .boolean) (hdg : decode cc pc = .ok (.ireturn, 1)) (h : (rz v).bind (fun u => some (u, σ)) = some (rf, σf)) (E : xEnd B G (some (.int rf)) σf k n) : xV B G k n σ pc lv [.int v] := by
  obtain ⟨p, l, e, R, s, m, args, below, meth, c, D, tA, HB, Q⟩ := G
  intro H locs ls hZ hL hl hk hs
  unfold rz at h
  by_cases hv : v = 0 ∨ v = 1
  · rw [if_pos hv] at h
    cases h
    have E : Q = _ := E
    rw [E]
    exact W.zret C.1 C.2.1 (C.2.2.1.trans hr) (by rcases hv with rfl | rfl <;> rfl) (fun t ht _ => ⟨rfl, by rw [ht]; exact hZ⟩) hL hdg C.2.2.2.1
  · rw [if_neg hv] at h; cases h
theorem r_vret {σf : MM} (C : xC B G y cc nL ret d Mc Ms) (hr : ret = none) (hdg : decode cc pc = .ok (.return_, 1)) (h : some σ = some σf) (E : xEnd B G none σf k n) : xV B G k n σ pc lv [] := by
  obtain ⟨p, l, e, R, s, m, args, below, meth, c, D, tA, HB, Q⟩ := G
  intro H locs ls hZ hL hl hk hs
  cases h
  have E : Q = _ := E
  rw [E]
  exact W.vret C.1 C.2.1 (C.2.2.1.trans hr) (fun t ht _ => ⟨rfl, by rw [ht]; exact hZ⟩) hL hdg C.2.2.2.1
theorem r_aret {v rf : Nat} {σf : MM} {cn : String} (C : xC B G y cc nL ret d Mc Ms) (hr : ret = some (.object cn)) (hdg : decode cc pc = .ok (.areturn, 1)) (h : some (v, σ) = some (rf, σf)) (E : xEnd B G (some (rv B rf)) σf k n) : xV B G k n σ pc lv [rv B v] := by
  obtain ⟨p, l, e, R, s, m, args, below, meth, c, D, tA, HB, Q⟩ := G
  intro H locs ls hZ hL hl hk hs
  cases h
  have E : Q = _ := E
  rw [E]
  exact W.aret C.1 C.2.1 (C.2.2.1.trans hr) (Or.inl ⟨cn, rfl⟩) (by by_cases hv : v = 0; exact Or.inl (by rw [hv]; rfl); exact Or.inr ⟨_, rv_pos hv⟩) (fun t ht _ => ⟨rfl, by rw [ht]; exact hZ⟩) hL hdg C.2.2.2.1
end XROWS2
