/-! ROWS: arrays, new cells -/
section XROWS4
variable {B : Nat} {G : XG} {y : MethodName} {cc : ByteArray} {nL : Nat} {ret : Option FieldType} {d Mc Ms : Nat} {k n : Nat} {σ : MM} {pc : Nat} {lv : LV} {st : List Value}
theorem r_iald {α : Type} {a : Nat} {i : Int32} {f : Int32 → Option α} {r : α} (C : xC B G y cc nL ret d Mc Ms) (hdg : decode cc pc = .ok (.iaload, 1)) (h : (aI σ a 20 i).bind f = some r) (kk : ∀ v, f v = some r → xV B G k n σ (pc + 1) lv (.int v :: st)) : xV B G k n σ pc lv (.int i :: rv B a :: st) := by
  obtain ⟨p, l, e, R, s, m, args, below, meth, c, D, tA, HB, Q⟩ := G
  intro H locs ls hZ hL hl hk hs
  unfold aI at h
  by_cases hz : (mT σ a).1 = 20 ∧ ix i (mT σ a).2
  · rw [if_pos hz] at h
    have h99 : (mT σ a).1 ≠ 99 := by rw [hz.1]; decide
    have hP := hZ.at h99
    rw [xE_i (n := (mT σ a).2) (Prod.ext hz.1 rfl)] at hP
    rw [rv_pos (hZ.ne h99)]
    exact va_iald C.1 C.2.1 C.2.2.2.2.2.2.2.1.1 hP 0 0 rfl rfl hz.2.vp hdg (kk _ h H locs ls hZ hL hl hk (cat_int (cat_tl (cat_tl hs))))
  · rw [if_neg hz] at h; cases h
theorem r_bald {α : Type} {a : Nat} {i : Int32} {f : Int32 → Option α} {r : α} (C : xC B G y cc nL ret d Mc Ms) (hdg : decode cc pc = .ok (.baload, 1)) (h : (aI σ a 21 i).bind f = some r) (kk : ∀ v, f v = some r → xV B G k n σ (pc + 1) lv (.int v :: st)) : xV B G k n σ pc lv (.int i :: rv B a :: st) := by
  obtain ⟨p, l, e, R, s, m, args, below, meth, c, D, tA, HB, Q⟩ := G
  intro H locs ls hZ hL hl hk hs
  unfold aI at h
  by_cases hz : (mT σ a).1 = 21 ∧ ix i (mT σ a).2
  · rw [if_pos hz] at h
    have h99 : (mT σ a).1 ≠ 99 := by rw [hz.1]; decide
    have hP := hZ.at h99
    rw [xE_b (n := (mT σ a).2) (Prod.ext hz.1 rfl)] at hP
    rw [rv_pos (hZ.ne h99)]
    exact va_bald C.1 C.2.1 C.2.2.2.2.2.2.2.1.1 hP 0 1 rfl rfl hz.2.vp hdg (kk _ h H locs ls hZ hL hl hk (cat_int (cat_tl (cat_tl hs))))
  · rw [if_neg hz] at h; cases h
theorem r_aald {α : Type} {a : Nat} {i : Int32} {f : Nat → Option α} {r : α} (q : Nat) (hq : q < 3) (C : xC B G y cc nL ret d Mc Ms) (hdg : decode cc pc = .ok (.aaload, 1)) (h : (aP σ a (22 + q) i).bind f = some r) (kk : ∀ v, f v = some r → xV B G k n σ (pc + 1) lv (rv B v :: st)) : xV B G k n σ pc lv (.int i :: rv B a :: st) := by
  obtain ⟨p, l, e, R, s, m, args, below, meth, c, D, tA, HB, Q⟩ := G
  intro H locs ls hZ hL hl hk hs
  unfold aP at h
  by_cases hz : (mT σ a).1 = 22 + q ∧ ix i (mT σ a).2
  · rw [if_pos hz] at h
    have h99 : (mT σ a).1 ≠ 99 := by rw [hz.1]; omega
    have hP := hZ.at h99
    rw [xE_p (k := q) (n := (mT σ a).2) (Prod.ext hz.1 rfl)] at hP
    rw [rv_pos (hZ.ne h99)]
    have h9 := kk _ h H locs ls hZ hL hl hk (cat_rv (cat_tl (cat_tl hs)))
    obtain ⟨ty, hty, hr⟩ : ∃ ty : FieldType, (mTys tA)[2 + q]? = some (tA (2 + q), ty) ∧ ty.isReference = true := by
      rcases (show q = 0 ∨ q = 1 ∨ q = 2 by omega) with rfl | rfl | rfl
      · exact ⟨_, rfl, rfl⟩
      · exact ⟨_, rfl, rfl⟩
      · exact ⟨_, rfl, rfl⟩
    exact W.aald (ty := ty) C.1 C.2.1 (hP 0 _ rfl) ((C.2.2.2.2.2.2.2.1.1.2 _ _ hty).1 _ (fun j => va_rf (op_ B (mP σ a j)))) hr (fun q => by cases q) (by show ¬ (i < 0 ∨ (arrV _ _ _).slots.size ≤ _); rw [arrV_size]; exact hz.2.vp) (by show (arrV _ _ _).slots[_]? = _; rw [arrV_read _ _ hz.2.2]; rfl) rfl rfl hdg h9
  · rw [if_neg hz] at h; cases h
theorem x_arrS {D : va_G} {tA : Nat → ClassId} {HB : XH} {H H1 : Heap} {a i : Nat} {v : Int32} (t : Nat) (ht : t < 2) (hz : (mT σ a).1 = 20 + t) (hZ : xZ D tA B HB σ H) (e : H1[B + a]? = some ((vp_cell (tA t) ((mT σ a).2, .inl (mI σ a))).setSlot i (.int v))) (z : H1.size = H.size) (oq : ∀ q : Nat, q ≠ B + a → H1[q]? = H[q]?) : xZ D tA B HB (wI σ a i v) H1 := by
  have h99 : (mT σ a).1 ≠ 99 := by rw [hz]; omega
  refine hZ.upd h99 rfl rfl (fun x hx => xE_wI_ne hx) z oq ?_
  have hx : xE tA B (wI σ a i v) a = .inl (tA t, (mT σ a).2, .inl (mI (wI σ a i v) a)) := by
    rcases (show t = 0 ∨ t = 1 by omega) with rfl | rfl
    · exact xE_i (Prod.ext hz rfl)
    · exact xE_b (Prod.ext hz rfl)
  rw [hx]
  show H1[B + a]? = some (vp_cell _ _)
  rw [e, vp_cell_i, vp_cell_i, arrV_store]
  congr 2
  funext q
  rw [mI_wI]
  by_cases hq : q = i
  · subst hq
    simp [updV]
  · simp [updV, hq]
theorem x_locs {D : va_G} {tA : Nat → ClassId} {HB : XH} {H : Heap} {a i : Nat} {locs : List Loc} (hZ : xZ D tA B HB σ H) (h99 : (mT σ a).1 ≠ 99) (hL : ∀ q ∈ locs, B < q.base) : ∀ q ∈ locs ++ [⟨B + a, i⟩], B < q.base := by
  intro x hx
  rcases List.mem_append.mp hx with h | h
  · exact hL x h
  · rw [List.mem_singleton.mp h]
    have := (hZ.2.2.2 a h99).1
    show B < B + a
    omega
theorem r_iast {α : Type} {a : Nat} {i v : Int32} {f : MM → Option α} {r : α} (C : xC B G y cc nL ret d Mc Ms) (hdg : decode cc pc = .ok (.iastore, 1)) (h : (sI σ a i v).bind f = some r) (kk : ∀ σ', f σ' = some r → xV B G k n σ' (pc + 1) lv st) : xV B G k n σ pc lv (.int v :: .int i :: rv B a :: st) := by
  obtain ⟨p, l, e, R, s, m, args, below, meth, c, D, tA, HB, Q⟩ := G
  intro H locs ls hZ hL hl hk hs
  unfold sI at h
  by_cases hz : (mT σ a).1 = 20 ∧ ix i (mT σ a).2
  · rw [if_pos hz] at h
    have h99 : (mT σ a).1 ≠ 99 := by rw [hz.1]; decide
    have hP := hZ.at h99
    rw [xE_i (n := (mT σ a).2) (Prod.ext hz.1 rfl)] at hP
    rw [rv_pos (hZ.ne h99)]
    refine W.iast C.1 C.2.1 (hP 0 _ rfl) ((C.2.2.2.2.2.2.2.1.1.2 0 _ rfl).1 _ (fun j => .int (mI σ a j))) (fun q => by cases q) (by show ¬ (i < 0 ∨ (arrV _ _ _).slots.size ≤ _); rw [arrV_size]; exact hz.2.vp) rfl rfl hdg fun H1 e z oq => ?_
    exact kk _ h H1 _ ls (x_arrS 0 (by decide) hz.1 hZ e z oq) (x_locs hZ h99 hL) hl hk (cat_tl (cat_tl (cat_tl hs)))
  · rw [if_neg hz] at h; cases h
theorem r_bast {α : Type} {a : Nat} {i v : Int32} {f : MM → Option α} {r : α} (C : xC B G y cc nL ret d Mc Ms) (hdg : decode cc pc = .ok (.bastore, 1)) (h : (sB σ a i v).bind f = some r) (kk : ∀ σ', f σ' = some r → xV B G k n σ' (pc + 1) lv st) : xV B G k n σ pc lv (.int v :: .int i :: rv B a :: st) := by
  obtain ⟨p, l, e, R, s, m, args, below, meth, c, D, tA, HB, Q⟩ := G
  intro H locs ls hZ hL hl hk hs
  unfold sB at h
  by_cases hz : (mT σ a).1 = 21 ∧ ix i (mT σ a).2
  · rw [if_pos hz] at h
    have h99 : (mT σ a).1 ≠ 99 := by rw [hz.1]; decide
    have hP := hZ.at h99
    rw [xE_b (n := (mT σ a).2) (Prod.ext hz.1 rfl)] at hP
    rw [rv_pos (hZ.ne h99)]
    refine W.bast C.1 C.2.1 (hP 0 _ rfl) ((C.2.2.2.2.2.2.2.1.1.2 1 _ rfl).1 _ (fun j => .int (mI σ a j))) (fun q => by cases q) (by show ¬ (i < 0 ∨ (arrV _ _ _).slots.size ≤ _); rw [arrV_size]; exact hz.2.vp) rfl rfl hdg fun H1 e z oq => ?_
    exact kk _ h H1 _ ls (x_arrS 1 (by decide) hz.1 hZ e z oq) (x_locs hZ h99 hL) hl hk (cat_tl (cat_tl (cat_tl hs)))
  · rw [if_neg hz] at h; cases h
end XROWS4
