set_option maxRecDepth 100000
theorem fd_X4_11 : xFg RX4 11 3 1 0 := ⟨_, rfl, rfl, by decide, by decide, in_X4, Or.inl q207⟩
theorem ft_X4_0 : xFt 3 0 (.array (.array .int)) true := ⟨_, rfl, by decide +kernel, rfl, rfl⟩
def l_X4_owes_4 (K : Int32 → MM → Option (Int32 × MM)) (F : Nat) (a0 : Nat) (x1 : Int32) : Nat → Int32 → Int32 → MM → Option (Int32 × MM)
  | 0, _, _, _ => none
  | f + 1, z2, z3, σ => if z3 < 10 then ((gP σ a0 3 1 0).bind fun p1 => (aP σ p1 22 x1).bind fun p2 => (aI σ p2 20 z3).bind fun v3 => l_X4_owes_4 K F a0 x1 f ((z2 + v3)) ((z3 + 1)) σ) else (K z2 σ)
def g_X4_owes (F : Nat) (σ : MM) (a0 : Nat) (x1 : Int32) : Option (Int32 × MM) := if mT σ a0 = (3, 1) then (l_X4_owes_4 (fun (r2_5 : Int32) (σ4 : MM) => some (r2_5, σ4)) F a0 x1 F 0 0 σ) else none
theorem wl_X4_owes_4 {B : Nat} {G : XG} {d : Nat} {rf : Int32} {σf : MM} (hd : 0 ≤ d) (C : xC B G yX4_owes cX4_owes 4 (some .int) d 0 0) (E : xEnd B G (some (.int rf)) σf 0 0) {K : Int32 → MM → Option (Int32 × MM)} {F : Nat} {a0 : Nat} {x1 : Int32} (hK : ∀ (q2 : Int32) (σ : MM), K q2 σ = some (rf, σf) → xV B G 0 0 σ 27 [(2, .int q2)] []) : ∀ (f : Nat) (z2 : Int32) (z3 : Int32) (σ : MM), l_X4_owes_4 K F a0 x1 f z2 z3 σ = some (rf, σf) → xV B G 0 0 σ 4 [(0, rv B a0), (1, .int x1), (2, .int z2), (3, .int z3)] [] := by
  intro f
  induction f with
  | zero =>
    intro z2 z3 σ h
    have h : none = some (rf, σf) := h
    cases h
  | succ f ih =>
    intro z2 z3 σ h
    rw [l_X4_owes_4.eq_2] at h
    refine r_iload_n (pc := 4) (i := 3) C dX4_owes_4 rfl rfl ?_
    refine r_bipush (pc := 5) (v := 10) C dX4_owes_5 (by decide) ?_
    refine r_icmpge (pc := 7) (tgt := 27) C dX4_owes_7 (by decide) h (fun h => ?_) (fun h => ?_)
    · refine r_pick (lv' := [(2, .int z2)]) [2] rfl ?_
      exact hK _ _ h
    · refine r_iload_n (pc := 10) (i := 2) C dX4_owes_10 rfl rfl ?_
      refine r_aload_n (pc := 11) (i := 0) C dX4_owes_11 rfl rfl ?_
      refine r_getP (pc := 12) C fd_X4_11 rfl dX4_owes_12 h (fun p1 h => ?_)
      refine r_iload_n (pc := 15) (i := 1) C dX4_owes_15 rfl rfl ?_
      refine r_aald (pc := 16) 0 (by decide) C dX4_owes_16 h (fun p2 h => ?_)
      refine r_iload_n (pc := 17) (i := 3) C dX4_owes_17 rfl rfl ?_
      refine r_iald (pc := 18) C dX4_owes_18 h (fun v3 h => ?_)
      refine r_iadd (pc := 19) C dX4_owes_19 ?_
      refine r_istore_n (pc := 20) (i := 2) C dX4_owes_20 rfl (by decide) ?_
      refine r_iinc (pc := 21) (i := 3) (v := (z3 + 1)) C dX4_owes_21 rfl rfl (by decide) ?_
      refine r_goto (pc := 24) (tgt := 4) C dX4_owes_24 (by decide) ?_
      refine r_pick (lv' := [(0, rv B a0), (1, .int x1), (2, .int (z2 + v3)), (3, .int (z3 + 1))]) [0, 1, 2, 3] rfl ?_
      exact ih _ _ _ h
theorem w_X4_owes {B F : Nat} {d : Nat} {σ : MM} {a0 : Nat} {x1 : Int32} {rf : Int32} {σf : MM} (hd : 0 ≤ d) (h : g_X4_owes F σ a0 x1 = some (rf, σf)) : xMA B yX4_owes cX4_owes 4 (some .int) d 0 0 [rv B a0, .int x1] σ (some (.int rf)) σf := by
  refine xMA.of (by decide +kernel) (Nat.le_of_ble_eq_true rfl) (cat_rv (cat_int cat_nil)) (fun G C E => ?_)
  unfold g_X4_owes at h
  obtain ⟨-, h⟩ := r_ck h
  refine r_iconst (pc := 0) (v := 0) C dX4_owes_0 (by decide) ?_
  refine r_istore_n (pc := 1) (i := 2) C dX4_owes_1 rfl (by decide) ?_
  refine r_iconst (pc := 2) (v := 0) C dX4_owes_2 (by decide) ?_
  refine r_istore_n (pc := 3) (i := 3) C dX4_owes_3 rfl (by decide) ?_
  refine r_pick (lv' := [(0, rv B a0), (1, .int x1), (2, .int 0), (3, .int 0)]) [0, 1, 2, 3] rfl ?_
  refine wl_X4_owes_4 hd C E (fun r2_5 σ4 h => ?_) _ _ _ _ h
  refine r_iload_n (pc := 27) (i := 2) C dX4_owes_27 rfl rfl ?_
  exact r_iret (pc := 28) C rfl dX4_owes_28 h E
theorem t_X4_owes {F : Nat} {σ : MM} {a0 : Nat} {x1 : Int32} {r : Int32 × MM} (h : g_X4_owes F σ a0 x1 = some r) : mT σ a0 = (3, 1) := by
  unfold g_X4_owes at h
  exact (r_ck h).1
theorem yd_X4_owes : xYd yX4_owes 1 := ⟨by decide +kernel, by decide +kernel, by decide +kernel⟩
theorem cs_X4_16_X4_owes : xCV RX4 16 yX4_owes cX4_owes 4 (some .int) 3 1 1 := ⟨by decide, by decide, _, rfl, yd_X4_owes, Or.inl ⟨rfl, lw_V q803 q804 q805 q120 q806⟩⟩
def l_X4_all_4 (K : Int32 → MM → Option (Int32 × MM)) (F : Nat) (a0 : Nat) : Nat → Int32 → Int32 → MM → Option (Int32 × MM)
  | 0, _, _, _ => none
  | f + 1, z1, z2, σ => if z2 < 10 then (bq (g_X4_owes F σ a0 z2) fun v2 σ1 => l_X4_all_4 K F a0 f ((z1 + v2)) ((z2 + 1)) σ1) else (K z1 σ)
def g_X4_all (F : Nat) (σ : MM) (a0 : Nat) : Option (Int32 × MM) := if mT σ a0 = (3, 1) then (l_X4_all_4 (fun (r1_4 : Int32) (σ3 : MM) => some (r1_4, σ3)) F a0 F 0 0 σ) else none
theorem wl_X4_all_4 {B : Nat} {G : XG} {d : Nat} {rf : Int32} {σf : MM} (hd : 1 ≤ d) (C : xC B G yX4_all cX4_all 3 (some .int) d 0 0) (E : xEnd B G (some (.int rf)) σf 0 0) {K : Int32 → MM → Option (Int32 × MM)} {F : Nat} {a0 : Nat} (hK : ∀ (q1 : Int32) (σ : MM), K q1 σ = some (rf, σf) → xV B G 0 0 σ 24 [(1, .int q1)] []) : ∀ (f : Nat) (z1 : Int32) (z2 : Int32) (σ : MM), l_X4_all_4 K F a0 f z1 z2 σ = some (rf, σf) → xV B G 0 0 σ 4 [(0, rv B a0), (1, .int z1), (2, .int z2)] [] := by
  intro f
  induction f with
  | zero =>
    intro z1 z2 σ h
    have h : none = some (rf, σf) := h
    cases h
  | succ f ih =>
    intro z1 z2 σ h
    rw [l_X4_all_4.eq_2] at h
    refine r_iload_n (pc := 4) (i := 2) C dX4_all_4 rfl rfl ?_
    refine r_bipush (pc := 5) (v := 10) C dX4_all_5 (by decide) ?_
    refine r_icmpge (pc := 7) (tgt := 24) C dX4_all_7 (by decide) h (fun h => ?_) (fun h => ?_)
    · refine r_pick (lv' := [(1, .int z1)]) [1] rfl ?_
      exact hK _ _ h
    · refine r_iload_n (pc := 10) (i := 1) C dX4_all_10 rfl rfl ?_
      refine r_aload_n (pc := 11) (i := 0) C dX4_all_11 rfl rfl ?_
      refine r_iload_n (pc := 12) (i := 2) C dX4_all_12 rfl rfl ?_
      refine r_callVI (pc := 13) (As := [.int z2]) (st := [.int z1]) C cs_X4_16_X4_owes h (fun _ _ e => w_X4_owes (Nat.le_refl 0) e) (fun _ _ e => t_X4_owes e) (Nat.le_trans (Nat.le_of_ble_eq_true rfl) hd) (Nat.le_of_ble_eq_true rfl) dX4_all_13 (fun v2 σ1 h => ?_)
      refine r_iadd (pc := 16) C dX4_all_16 ?_
      refine r_istore_n (pc := 17) (i := 1) C dX4_all_17 rfl (by decide) ?_
      refine r_iinc (pc := 18) (i := 2) (v := (z2 + 1)) C dX4_all_18 rfl rfl (by decide) ?_
      refine r_goto (pc := 21) (tgt := 4) C dX4_all_21 (by decide) ?_
      refine r_pick (lv' := [(0, rv B a0), (1, .int (z1 + v2)), (2, .int (z2 + 1))]) [0, 1, 2] rfl ?_
      exact ih _ _ _ h
theorem w_X4_all {B F : Nat} {d : Nat} {σ : MM} {a0 : Nat} {rf : Int32} {σf : MM} (hd : 1 ≤ d) (h : g_X4_all F σ a0 = some (rf, σf)) : xMA B yX4_all cX4_all 3 (some .int) d 0 0 [rv B a0] σ (some (.int rf)) σf := by
  refine xMA.of (by decide +kernel) (Nat.le_of_ble_eq_true rfl) (cat_rv cat_nil) (fun G C E => ?_)
  unfold g_X4_all at h
  obtain ⟨-, h⟩ := r_ck h
  refine r_iconst (pc := 0) (v := 0) C dX4_all_0 (by decide) ?_
  refine r_istore_n (pc := 1) (i := 1) C dX4_all_1 rfl (by decide) ?_
  refine r_iconst (pc := 2) (v := 0) C dX4_all_2 (by decide) ?_
  refine r_istore_n (pc := 3) (i := 2) C dX4_all_3 rfl (by decide) ?_
  refine r_pick (lv' := [(0, rv B a0), (1, .int 0), (2, .int 0)]) [0, 1, 2] rfl ?_
  refine wl_X4_all_4 hd C E (fun r1_4 σ3 h => ?_) _ _ _ _ h
  refine r_iload_n (pc := 24) (i := 1) C dX4_all_24 rfl rfl ?_
  exact r_iret (pc := 25) C rfl dX4_all_25 h E
theorem t_X4_all {F : Nat} {σ : MM} {a0 : Nat} {r : Int32 × MM} (h : g_X4_all F σ a0 = some r) : mT σ a0 = (3, 1) := by
  unfold g_X4_all at h
  exact (r_ck h).1
def l_X4_takes_10 (K : MM → Option (Nat × MM)) (F : Nat) (a0 : Nat) (a1 : Nat) (x2 : Int32) : Nat → Int32 → MM → Option (Nat × MM)
  | 0, _, _ => none
  | f + 1, z3, σ => if z3 < 10 then ((gP σ a0 3 1 0).bind fun p1 => (aP σ p1 22 x2).bind fun p2 => (gP σ a1 3 1 0).bind fun p3 => (aP σ p3 22 x2).bind fun p4 => (aI σ p4 20 z3).bind fun v5 => (sI σ p2 z3 v5).bind fun σ6 => l_X4_takes_10 K F a0 a1 x2 f ((z3 + 1)) σ6) else (K σ)
def l_X4_takes_2 (K : MM → Option (Nat × MM)) (F : Nat) (a0 : Nat) (a1 : Nat) : Nat → Int32 → MM → Option (Nat × MM)
  | 0, _, _ => none
  | f + 1, z2, σ => if z2 < 10 then (l_X4_takes_10 (fun (σ7 : MM) => l_X4_takes_2 K F a0 a1 f ((z2 + 1)) σ7) F a0 a1 z2 F 0 σ) else (K σ)
def g_X4_takes (F : Nat) (σ : MM) (a0 : Nat) (a1 : Nat) : Option (Nat × MM) := if mT σ a0 = (3, 1) then (l_X4_takes_2 (fun (σ8 : MM) => some (a0, σ8)) F a0 a1 F 0 σ) else none
theorem wl_X4_takes_10 {B : Nat} {G : XG} {d : Nat} {rf : Nat} {σf : MM} (hd : 0 ≤ d) (C : xC B G yX4_takes cX4_takes 4 (some (.object "OneCoin$Debts")) d 0 0) (E : xEnd B G (some (rv B rf)) σf 0 0) {K : MM → Option (Nat × MM)} {F : Nat} {a0 : Nat} {a1 : Nat} {x2 : Int32} (hK : ∀ (σ : MM), K σ = some (rf, σf) → xV B G 0 0 σ 38 [(0, rv B a0), (1, rv B a1), (2, .int x2)] []) : ∀ (f : Nat) (z3 : Int32) (σ : MM), l_X4_takes_10 K F a0 a1 x2 f z3 σ = some (rf, σf) → xV B G 0 0 σ 10 [(0, rv B a0), (1, rv B a1), (2, .int x2), (3, .int z3)] [] := by
  intro f
  induction f with
  | zero =>
    intro z3 σ h
    have h : none = some (rf, σf) := h
    cases h
  | succ f ih =>
    intro z3 σ h
    rw [l_X4_takes_10.eq_2] at h
    refine r_iload_n (pc := 10) (i := 3) C dX4_takes_10 rfl rfl ?_
    refine r_bipush (pc := 11) (v := 10) C dX4_takes_11 (by decide) ?_
    refine r_icmpge (pc := 13) (tgt := 38) C dX4_takes_13 (by decide) h (fun h => ?_) (fun h => ?_)
    · refine r_pick (lv' := [(0, rv B a0), (1, rv B a1), (2, .int x2)]) [0, 1, 2] rfl ?_
      exact hK _ h
    · refine r_aload_n (pc := 16) (i := 0) C dX4_takes_16 rfl rfl ?_
      refine r_getP (pc := 17) C fd_X4_11 rfl dX4_takes_17 h (fun p1 h => ?_)
      refine r_iload_n (pc := 20) (i := 2) C dX4_takes_20 rfl rfl ?_
      refine r_aald (pc := 21) 0 (by decide) C dX4_takes_21 h (fun p2 h => ?_)
      refine r_iload_n (pc := 22) (i := 3) C dX4_takes_22 rfl rfl ?_
      refine r_aload_n (pc := 23) (i := 1) C dX4_takes_23 rfl rfl ?_
      refine r_getP (pc := 24) C fd_X4_11 rfl dX4_takes_24 h (fun p3 h => ?_)
      refine r_iload_n (pc := 27) (i := 2) C dX4_takes_27 rfl rfl ?_
      refine r_aald (pc := 28) 0 (by decide) C dX4_takes_28 h (fun p4 h => ?_)
      refine r_iload_n (pc := 29) (i := 3) C dX4_takes_29 rfl rfl ?_
      refine r_iald (pc := 30) C dX4_takes_30 h (fun v5 h => ?_)
      refine r_iast (pc := 31) C dX4_takes_31 h (fun σ6 h => ?_)
      refine r_iinc (pc := 32) (i := 3) (v := (z3 + 1)) C dX4_takes_32 rfl rfl (by decide) ?_
      refine r_goto (pc := 35) (tgt := 10) C dX4_takes_35 (by decide) ?_
      refine r_pick (lv' := [(0, rv B a0), (1, rv B a1), (2, .int x2), (3, .int (z3 + 1))]) [0, 1, 2, 3] rfl ?_
      exact ih _ _ h
theorem wl_X4_takes_2 {B : Nat} {G : XG} {d : Nat} {rf : Nat} {σf : MM} (hd : 0 ≤ d) (C : xC B G yX4_takes cX4_takes 4 (some (.object "OneCoin$Debts")) d 0 0) (E : xEnd B G (some (rv B rf)) σf 0 0) {K : MM → Option (Nat × MM)} {F : Nat} {a0 : Nat} {a1 : Nat} (hK : ∀ (σ : MM), K σ = some (rf, σf) → xV B G 0 0 σ 44 [(0, rv B a0)] []) : ∀ (f : Nat) (z2 : Int32) (σ : MM), l_X4_takes_2 K F a0 a1 f z2 σ = some (rf, σf) → xV B G 0 0 σ 2 [(0, rv B a0), (1, rv B a1), (2, .int z2)] [] := by
  intro f
  induction f with
  | zero =>
    intro z2 σ h
    have h : none = some (rf, σf) := h
    cases h
  | succ f ih =>
    intro z2 σ h
    rw [l_X4_takes_2.eq_2] at h
    refine r_iload_n (pc := 2) (i := 2) C dX4_takes_2 rfl rfl ?_
    refine r_bipush (pc := 3) (v := 10) C dX4_takes_3 (by decide) ?_
    refine r_icmpge (pc := 5) (tgt := 44) C dX4_takes_5 (by decide) h (fun h => ?_) (fun h => ?_)
    · refine r_pick (lv' := [(0, rv B a0)]) [0] rfl ?_
      exact hK _ h
    · refine r_iconst (pc := 8) (v := 0) C dX4_takes_8 (by decide) ?_
      refine r_istore_n (pc := 9) (i := 3) C dX4_takes_9 rfl (by decide) ?_
      refine r_pick (lv' := [(0, rv B a0), (1, rv B a1), (2, .int z2), (3, .int 0)]) [0, 1, 2, 3] rfl ?_
      refine wl_X4_takes_10 hd C E (fun  σ7 h => ?_) _ _ _ h
      refine r_iinc (pc := 38) (i := 2) (v := (z2 + 1)) C dX4_takes_38 rfl rfl (by decide) ?_
      refine r_goto (pc := 41) (tgt := 2) C dX4_takes_41 (by decide) ?_
      refine r_pick (lv' := [(0, rv B a0), (1, rv B a1), (2, .int (z2 + 1))]) [0, 1, 2] rfl ?_
      exact ih _ _ h
theorem w_X4_takes {B F : Nat} {d : Nat} {σ : MM} {a0 : Nat} {a1 : Nat} {rf : Nat} {σf : MM} (hd : 0 ≤ d) (h : g_X4_takes F σ a0 a1 = some (rf, σf)) : xMA B yX4_takes cX4_takes 4 (some (.object "OneCoin$Debts")) d 0 0 [rv B a0, rv B a1] σ (some (rv B rf)) σf := by
  refine xMA.of (by decide +kernel) (Nat.le_of_ble_eq_true rfl) (cat_rv (cat_rv cat_nil)) (fun G C E => ?_)
  unfold g_X4_takes at h
  obtain ⟨-, h⟩ := r_ck h
  refine r_iconst (pc := 0) (v := 0) C dX4_takes_0 (by decide) ?_
  refine r_istore_n (pc := 1) (i := 2) C dX4_takes_1 rfl (by decide) ?_
  refine r_pick (lv' := [(0, rv B a0), (1, rv B a1), (2, .int 0)]) [0, 1, 2] rfl ?_
  refine wl_X4_takes_2 hd C E (fun  σ8 h => ?_) _ _ _ h
  refine r_aload_n (pc := 44) (i := 0) C dX4_takes_44 rfl rfl ?_
  exact r_aret (pc := 45) C rfl dX4_takes_45 h E
theorem t_X4_takes {F : Nat} {σ : MM} {a0 : Nat} {a1 : Nat} {r : Nat × MM} (h : g_X4_takes F σ a0 a1 = some r) : mT σ a0 = (3, 1) := by
  unfold g_X4_takes at h
  exact (r_ck h).1
def l_X4_gets_4 (K : Int32 → MM → Option (Int32 × MM)) (F : Nat) (a0 : Nat) (x1 : Int32) : Nat → Int32 → Int32 → MM → Option (Int32 × MM)
  | 0, _, _, _ => none
  | f + 1, z2, z3, σ => if z3 < 10 then ((gP σ a0 3 1 0).bind fun p1 => (aP σ p1 22 z3).bind fun p2 => (aI σ p2 20 x1).bind fun v3 => l_X4_gets_4 K F a0 x1 f ((z2 + v3)) ((z3 + 1)) σ) else (K z2 σ)
def g_X4_gets (F : Nat) (σ : MM) (a0 : Nat) (x1 : Int32) : Option (Int32 × MM) := if mT σ a0 = (3, 1) then (l_X4_gets_4 (fun (r2_5 : Int32) (σ4 : MM) => some (r2_5, σ4)) F a0 x1 F 0 0 σ) else none
theorem wl_X4_gets_4 {B : Nat} {G : XG} {d : Nat} {rf : Int32} {σf : MM} (hd : 0 ≤ d) (C : xC B G yX4_gets cX4_gets 4 (some .int) d 0 0) (E : xEnd B G (some (.int rf)) σf 0 0) {K : Int32 → MM → Option (Int32 × MM)} {F : Nat} {a0 : Nat} {x1 : Int32} (hK : ∀ (q2 : Int32) (σ : MM), K q2 σ = some (rf, σf) → xV B G 0 0 σ 27 [(2, .int q2)] []) : ∀ (f : Nat) (z2 : Int32) (z3 : Int32) (σ : MM), l_X4_gets_4 K F a0 x1 f z2 z3 σ = some (rf, σf) → xV B G 0 0 σ 4 [(0, rv B a0), (1, .int x1), (2, .int z2), (3, .int z3)] [] := by
  intro f
  induction f with
  | zero =>
    intro z2 z3 σ h
    have h : none = some (rf, σf) := h
    cases h
  | succ f ih =>
    intro z2 z3 σ h
    rw [l_X4_gets_4.eq_2] at h
    refine r_iload_n (pc := 4) (i := 3) C dX4_gets_4 rfl rfl ?_
    refine r_bipush (pc := 5) (v := 10) C dX4_gets_5 (by decide) ?_
    refine r_icmpge (pc := 7) (tgt := 27) C dX4_gets_7 (by decide) h (fun h => ?_) (fun h => ?_)
    · refine r_pick (lv' := [(2, .int z2)]) [2] rfl ?_
      exact hK _ _ h
    · refine r_iload_n (pc := 10) (i := 2) C dX4_gets_10 rfl rfl ?_
      refine r_aload_n (pc := 11) (i := 0) C dX4_gets_11 rfl rfl ?_
      refine r_getP (pc := 12) C fd_X4_11 rfl dX4_gets_12 h (fun p1 h => ?_)
      refine r_iload_n (pc := 15) (i := 3) C dX4_gets_15 rfl rfl ?_
      refine r_aald (pc := 16) 0 (by decide) C dX4_gets_16 h (fun p2 h => ?_)
      refine r_iload_n (pc := 17) (i := 1) C dX4_gets_17 rfl rfl ?_
      refine r_iald (pc := 18) C dX4_gets_18 h (fun v3 h => ?_)
      refine r_iadd (pc := 19) C dX4_gets_19 ?_
      refine r_istore_n (pc := 20) (i := 2) C dX4_gets_20 rfl (by decide) ?_
      refine r_iinc (pc := 21) (i := 3) (v := (z3 + 1)) C dX4_gets_21 rfl rfl (by decide) ?_
      refine r_goto (pc := 24) (tgt := 4) C dX4_gets_24 (by decide) ?_
      refine r_pick (lv' := [(0, rv B a0), (1, .int x1), (2, .int (z2 + v3)), (3, .int (z3 + 1))]) [0, 1, 2, 3] rfl ?_
      exact ih _ _ _ h
theorem w_X4_gets {B F : Nat} {d : Nat} {σ : MM} {a0 : Nat} {x1 : Int32} {rf : Int32} {σf : MM} (hd : 0 ≤ d) (h : g_X4_gets F σ a0 x1 = some (rf, σf)) : xMA B yX4_gets cX4_gets 4 (some .int) d 0 0 [rv B a0, .int x1] σ (some (.int rf)) σf := by
  refine xMA.of (by decide +kernel) (Nat.le_of_ble_eq_true rfl) (cat_rv (cat_int cat_nil)) (fun G C E => ?_)
  unfold g_X4_gets at h
  obtain ⟨-, h⟩ := r_ck h
  refine r_iconst (pc := 0) (v := 0) C dX4_gets_0 (by decide) ?_
  refine r_istore_n (pc := 1) (i := 2) C dX4_gets_1 rfl (by decide) ?_
  refine r_iconst (pc := 2) (v := 0) C dX4_gets_2 (by decide) ?_
  refine r_istore_n (pc := 3) (i := 3) C dX4_gets_3 rfl (by decide) ?_
  refine r_pick (lv' := [(0, rv B a0), (1, .int x1), (2, .int 0), (3, .int 0)]) [0, 1, 2, 3] rfl ?_
  refine wl_X4_gets_4 hd C E (fun r2_5 σ4 h => ?_) _ _ _ _ h
  refine r_iload_n (pc := 27) (i := 2) C dX4_gets_27 rfl rfl ?_
  exact r_iret (pc := 28) C rfl dX4_gets_28 h E
theorem t_X4_gets {F : Nat} {σ : MM} {a0 : Nat} {x1 : Int32} {r : Int32 × MM} (h : g_X4_gets F σ a0 x1 = some r) : mT σ a0 = (3, 1) := by
  unfold g_X4_gets at h
  exact (r_ck h).1
def g_X0_has (F : Nat) (σ : MM) (x0 : Int32) (x1 : Int32) : Option (Int32 × MM) := if ((x0 >>> (x1 &&& 31)) &&& 1) = 1 then (some (1, σ)) else (some (0, σ))
theorem w_X0_has {B F : Nat} {d : Nat} {σ : MM} {x0 : Int32} {x1 : Int32} {rf : Int32} {σf : MM} (hd : 0 ≤ d) (h : g_X0_has F σ x0 x1 = some (rf, σf)) : xMA B yX0_has cX0_has 2 (some .boolean) d 0 0 [.int x0, .int x1] σ (some (.int rf)) σf := by
  refine xMA.of (by decide +kernel) (Nat.le_of_ble_eq_true rfl) (cat_int (cat_int cat_nil)) (fun G C E => ?_)
  unfold g_X0_has at h
  refine r_iload_n (pc := 0) (i := 0) C dX0_has_0 rfl rfl ?_
  refine r_iload_n (pc := 1) (i := 1) C dX0_has_1 rfl rfl ?_
  refine r_ishr (pc := 2) C dX0_has_2 ?_
  refine r_iconst (pc := 3) (v := 1) C dX0_has_3 (by decide) ?_
  refine r_iand (pc := 4) C dX0_has_4 ?_
  refine r_iconst (pc := 5) (v := 1) C dX0_has_5 (by decide) ?_
  refine r_icmpne (pc := 6) (tgt := 13) C dX0_has_6 (by decide) h (fun h => ?_) (fun h => ?_)
  · refine r_iconst (pc := 13) (v := 0) C dX0_has_13 (by decide) ?_
    exact r_zretL (pc := 14) C rfl dX0_has_14 (Or.inl rfl) h E
  · refine r_iconst (pc := 9) (v := 1) C dX0_has_9 (by decide) ?_
    refine r_goto (pc := 10) (tgt := 14) C dX0_has_10 (by decide) ?_
    exact r_zretL (pc := 14) C rfl dX0_has_14 (Or.inr rfl) h E
theorem yd_X0_has : xYd yX0_has 2 := ⟨by decide +kernel, by decide +kernel, by decide +kernel⟩
theorem cs_X4_23_X0_has : xCS RX4 23 yX0_has cX0_has 2 (some .boolean) 2 := ⟨by decide, yd_X0_has, Or.inr ⟨lw_meth q399, q116, _, in_nest q1098 rfl, q398⟩⟩
def l_X4_next_13 (K : Int32 → MM → Option (Int32 × MM)) (F : Nat) (a0 : Nat) (x1 : Int32) (x3 : Int32) : Nat → Int32 → Int32 → MM → Option (Int32 × MM)
  | 0, _, _, _ => none
  | f + 1, z2, z4, σ => if z4 < 10 then (bq (g_X0_has F σ x1 x3) fun v2 σ1 => if v2 = 0 then (K z2 σ1) else ((gP σ1 a0 3 1 0).bind fun p3 => (aP σ1 p3 22 x3).bind fun p4 => (aI σ1 p4 20 z4).bind fun v5 => jn (fun (w7 : Int32) (σ6 : MM) => l_X4_next_13 K F a0 x1 x3 f ((z2 ||| w7)) ((z4 + 1)) σ6) (fun k8 => if 0 < v5 then (k8 (((1 : Int32) <<< (z4 &&& 31))) σ1) else (k8 0 σ1)))) else (K z2 σ)
def l_X4_next_4 (K : Int32 → MM → Option (Int32 × MM)) (F : Nat) (a0 : Nat) (x1 : Int32) : Nat → Int32 → Int32 → MM → Option (Int32 × MM)
  | 0, _, _, _ => none
  | f + 1, z2, z3, σ => if z3 < 10 then (l_X4_next_13 (fun (r2_10 : Int32) (σ9 : MM) => l_X4_next_4 K F a0 x1 f r2_10 ((z3 + 1)) σ9) F a0 x1 z3 F z2 0 σ) else (K z2 σ)
def g_X4_next (F : Nat) (σ : MM) (a0 : Nat) (x1 : Int32) : Option (Int32 × MM) := if mT σ a0 = (3, 1) then (l_X4_next_4 (fun (r2_12 : Int32) (σ11 : MM) => some (r2_12, σ11)) F a0 x1 F x1 0 σ) else none
theorem wl_X4_next_13 {B : Nat} {G : XG} {d : Nat} {rf : Int32} {σf : MM} (hd : 1 ≤ d) (C : xC B G yX4_next cX4_next 5 (some .int) d 0 0) (E : xEnd B G (some (.int rf)) σf 0 0) {K : Int32 → MM → Option (Int32 × MM)} {F : Nat} {a0 : Nat} {x1 : Int32} {x3 : Int32} (hK : ∀ (q2 : Int32) (σ : MM), K q2 σ = some (rf, σf) → xV B G 0 0 σ 57 [(0, rv B a0), (1, .int x1), (2, .int q2), (3, .int x3)] []) : ∀ (f : Nat) (z2 : Int32) (z4 : Int32) (σ : MM), l_X4_next_13 K F a0 x1 x3 f z2 z4 σ = some (rf, σf) → xV B G 0 0 σ 13 [(0, rv B a0), (1, .int x1), (2, .int z2), (3, .int x3), (4, .int z4)] [] := by
  intro f
  induction f with
  | zero =>
    intro z2 z4 σ h
    have h : none = some (rf, σf) := h
    cases h
  | succ f ih =>
    intro z2 z4 σ h
    rw [l_X4_next_13.eq_2] at h
    refine r_iload (pc := 13) (i := 4) C dX4_next_13 rfl ?_
    refine r_bipush (pc := 15) (v := 10) C dX4_next_15 (by decide) ?_
    refine r_icmpge (pc := 17) (tgt := 57) C dX4_next_17 (by decide) h (fun h => ?_) (fun h => ?_)
    · refine r_pick (lv' := [(0, rv B a0), (1, .int x1), (2, .int z2), (3, .int x3)]) [0, 1, 2, 3] rfl ?_
      exact hK _ _ h
    · refine r_iload_n (pc := 20) (i := 1) C dX4_next_20 rfl rfl ?_
      refine r_iload_n (pc := 21) (i := 3) C dX4_next_21 rfl rfl ?_
      refine r_callSI (pc := 22) (As := [.int x1, .int x3]) (st := []) C cs_X4_23_X0_has h (fun _ _ e => w_X0_has (Nat.le_refl 0) e) (Nat.le_trans (Nat.le_of_ble_eq_true rfl) hd) (Nat.le_of_ble_eq_true rfl) dX4_next_22 (fun v2 σ1 h => ?_)
      refine r_ifeq (pc := 25) (tgt := 57) C dX4_next_25 (by decide) h (fun h => ?_) (fun h => ?_)
      · refine r_pick (lv' := [(0, rv B a0), (1, .int x1), (2, .int z2), (3, .int x3)]) [0, 1, 2, 3] rfl ?_
        exact hK _ _ h
      · refine r_iload_n (pc := 28) (i := 2) C dX4_next_28 rfl rfl ?_
        refine r_aload_n (pc := 29) (i := 0) C dX4_next_29 rfl rfl ?_
        refine r_getP (pc := 30) C fd_X4_11 rfl dX4_next_30 h (fun p3 h => ?_)
        refine r_iload_n (pc := 33) (i := 3) C dX4_next_33 rfl rfl ?_
        refine r_aald (pc := 34) 0 (by decide) C dX4_next_34 h (fun p4 h => ?_)
        refine r_iload (pc := 35) (i := 4) C dX4_next_35 rfl ?_
        refine r_iald (pc := 37) C dX4_next_37 h (fun v5 h => ?_)
        refine r_jn (fun k9 => ∀ (w7 : Int32) (σ6 : MM), k9 w7 σ6 = some (rf, σf) → xV B G 0 0 σ6 49 [(0, rv B a0), (1, .int x1), (3, .int x3), (4, .int z4)] [.int w7, .int z2]) h (fun w7 σ6 h => ?_) (fun k8 hk8 h => ?_)
        · refine r_ior (pc := 49) C dX4_next_49 ?_
          refine r_istore_n (pc := 50) (i := 2) C dX4_next_50 rfl (by decide) ?_
          refine r_iinc (pc := 51) (i := 4) (v := (z4 + 1)) C dX4_next_51 rfl rfl (by decide) ?_
          refine r_goto (pc := 54) (tgt := 13) C dX4_next_54 (by decide) ?_
          refine r_pick (lv' := [(0, rv B a0), (1, .int x1), (2, .int (z2 ||| w7)), (3, .int x3), (4, .int (z4 + 1))]) [0, 1, 2, 3, 4] rfl ?_
          exact ih _ _ _ h
        · refine r_ifle (pc := 38) (tgt := 48) C dX4_next_38 (by decide) h (fun h => ?_) (fun h => ?_)
          · refine r_iconst (pc := 48) (v := 0) C dX4_next_48 (by decide) ?_
            refine r_pick (lv' := [(0, rv B a0), (1, .int x1), (3, .int x3), (4, .int z4)]) [0, 1, 3, 4] rfl ?_
            exact hk8 _ _ h
          · refine r_iconst (pc := 41) (v := 1) C dX4_next_41 (by decide) ?_
            refine r_iload (pc := 42) (i := 4) C dX4_next_42 rfl ?_
            refine r_ishl (pc := 44) C dX4_next_44 ?_
            refine r_goto (pc := 45) (tgt := 49) C dX4_next_45 (by decide) ?_
            refine r_pick (lv' := [(0, rv B a0), (1, .int x1), (3, .int x3), (4, .int z4)]) [0, 1, 3, 4] rfl ?_
            exact hk8 _ _ h
theorem wl_X4_next_4 {B : Nat} {G : XG} {d : Nat} {rf : Int32} {σf : MM} (hd : 1 ≤ d) (C : xC B G yX4_next cX4_next 5 (some .int) d 0 0) (E : xEnd B G (some (.int rf)) σf 0 0) {K : Int32 → MM → Option (Int32 × MM)} {F : Nat} {a0 : Nat} {x1 : Int32} (hK : ∀ (q2 : Int32) (σ : MM), K q2 σ = some (rf, σf) → xV B G 0 0 σ 63 [(2, .int q2)] []) : ∀ (f : Nat) (z2 : Int32) (z3 : Int32) (σ : MM), l_X4_next_4 K F a0 x1 f z2 z3 σ = some (rf, σf) → xV B G 0 0 σ 4 [(0, rv B a0), (1, .int x1), (2, .int z2), (3, .int z3)] [] := by
  intro f
  induction f with
  | zero =>
    intro z2 z3 σ h
    have h : none = some (rf, σf) := h
    cases h
  | succ f ih =>
    intro z2 z3 σ h
    rw [l_X4_next_4.eq_2] at h
    refine r_iload_n (pc := 4) (i := 3) C dX4_next_4 rfl rfl ?_
    refine r_bipush (pc := 5) (v := 10) C dX4_next_5 (by decide) ?_
    refine r_icmpge (pc := 7) (tgt := 63) C dX4_next_7 (by decide) h (fun h => ?_) (fun h => ?_)
    · refine r_pick (lv' := [(2, .int z2)]) [2] rfl ?_
      exact hK _ _ h
    · refine r_iconst (pc := 10) (v := 0) C dX4_next_10 (by decide) ?_
      refine r_istore (pc := 11) (i := 4) C dX4_next_11 (by decide) ?_
      refine r_pick (lv' := [(0, rv B a0), (1, .int x1), (2, .int z2), (3, .int z3), (4, .int 0)]) [0, 1, 2, 3, 4] rfl ?_
      refine wl_X4_next_13 hd C E (fun r2_10 σ9 h => ?_) _ _ _ _ h
      refine r_iinc (pc := 57) (i := 3) (v := (z3 + 1)) C dX4_next_57 rfl rfl (by decide) ?_
      refine r_goto (pc := 60) (tgt := 4) C dX4_next_60 (by decide) ?_
      refine r_pick (lv' := [(0, rv B a0), (1, .int x1), (2, .int r2_10), (3, .int (z3 + 1))]) [0, 1, 2, 3] rfl ?_
      exact ih _ _ _ h
theorem w_X4_next {B F : Nat} {d : Nat} {σ : MM} {a0 : Nat} {x1 : Int32} {rf : Int32} {σf : MM} (hd : 1 ≤ d) (h : g_X4_next F σ a0 x1 = some (rf, σf)) : xMA B yX4_next cX4_next 5 (some .int) d 0 0 [rv B a0, .int x1] σ (some (.int rf)) σf := by
  refine xMA.of (by decide +kernel) (Nat.le_of_ble_eq_true rfl) (cat_rv (cat_int cat_nil)) (fun G C E => ?_)
  unfold g_X4_next at h
  obtain ⟨-, h⟩ := r_ck h
  refine r_iload_n (pc := 0) (i := 1) C dX4_next_0 rfl rfl ?_
  refine r_istore_n (pc := 1) (i := 2) C dX4_next_1 rfl (by decide) ?_
  refine r_iconst (pc := 2) (v := 0) C dX4_next_2 (by decide) ?_
  refine r_istore_n (pc := 3) (i := 3) C dX4_next_3 rfl (by decide) ?_
  refine r_pick (lv' := [(0, rv B a0), (1, .int x1), (2, .int x1), (3, .int 0)]) [0, 1, 2, 3] rfl ?_
  refine wl_X4_next_4 hd C E (fun r2_12 σ11 h => ?_) _ _ _ _ h
  refine r_iload_n (pc := 63) (i := 2) C dX4_next_63 rfl rfl ?_
  exact r_iret (pc := 64) C rfl dX4_next_64 h E
theorem t_X4_next {F : Nat} {σ : MM} {a0 : Nat} {x1 : Int32} {r : Int32 × MM} (h : g_X4_next F σ a0 x1 = some r) : mT σ a0 = (3, 1) := by
  unfold g_X4_next at h
  exact (r_ck h).1
theorem yd_X4_next : xYd yX4_next 1 := ⟨by decide +kernel, by decide +kernel, by decide +kernel⟩
theorem cs_X4_20_X4_next : xCV RX4 20 yX4_next cX4_next 5 (some .int) 3 1 1 := ⟨by decide, by decide, _, rfl, yd_X4_next, Or.inl ⟨rfl, lw_V q1094 q1096 qs31 q120 q1097⟩⟩
def l_X4_reach_10 (K : Int32 → MM → Option (Int32 × MM)) (F : Nat) (a0 : Nat) : Nat → Int32 → Int32 → MM → Option (Int32 × MM)
  | 0, _, _, _ => none
  | f + 1, z2, z3, σ => if z3 = z2 then (K z2 σ) else (bq (g_X4_next F σ a0 z3) fun v4 σ3 => l_X4_reach_10 K F a0 f z3 v4 σ3)
def g_X4_reach (F : Nat) (σ : MM) (a0 : Nat) (x1 : Int32) : Option (Int32 × MM) := if mT σ a0 = (3, 1) then (bq (g_X4_next F σ a0 (((1 : Int32) <<< (x1 &&& 31)))) fun v2 σ1 => l_X4_reach_10 (fun (r2_6 : Int32) (σ5 : MM) => some (r2_6, σ5)) F a0 F (((1 : Int32) <<< (x1 &&& 31))) v2 σ1) else none
theorem wl_X4_reach_10 {B : Nat} {G : XG} {d : Nat} {rf : Int32} {σf : MM} (hd : 2 ≤ d) (C : xC B G yX4_reach cX4_reach 4 (some .int) d 0 0) (E : xEnd B G (some (.int rf)) σf 0 0) {K : Int32 → MM → Option (Int32 × MM)} {F : Nat} {a0 : Nat} (hK : ∀ (q2 : Int32) (σ : MM), K q2 σ = some (rf, σf) → xV B G 0 0 σ 26 [(2, .int q2)] []) : ∀ (f : Nat) (z2 : Int32) (z3 : Int32) (σ : MM), l_X4_reach_10 K F a0 f z2 z3 σ = some (rf, σf) → xV B G 0 0 σ 10 [(0, rv B a0), (2, .int z2), (3, .int z3)] [] := by
  intro f
  induction f with
  | zero =>
    intro z2 z3 σ h
    have h : none = some (rf, σf) := h
    cases h
  | succ f ih =>
    intro z2 z3 σ h
    rw [l_X4_reach_10.eq_2] at h
    refine r_iload_n (pc := 10) (i := 3) C dX4_reach_10 rfl rfl ?_
    refine r_iload_n (pc := 11) (i := 2) C dX4_reach_11 rfl rfl ?_
    refine r_icmpeq (pc := 12) (tgt := 26) C dX4_reach_12 (by decide) h (fun h => ?_) (fun h => ?_)
    · refine r_pick (lv' := [(2, .int z2)]) [2] rfl ?_
      exact hK _ _ h
    · refine r_iload_n (pc := 15) (i := 3) C dX4_reach_15 rfl rfl ?_
      refine r_istore_n (pc := 16) (i := 2) C dX4_reach_16 rfl (by decide) ?_
      refine r_aload_n (pc := 17) (i := 0) C dX4_reach_17 rfl rfl ?_
      refine r_iload_n (pc := 18) (i := 2) C dX4_reach_18 rfl rfl ?_
      refine r_callVI (pc := 19) (As := [.int z3]) (st := []) C cs_X4_20_X4_next h (fun _ _ e => w_X4_next (Nat.le_refl 1) e) (fun _ _ e => t_X4_next e) (Nat.le_trans (Nat.le_of_ble_eq_true rfl) hd) (Nat.le_of_ble_eq_true rfl) dX4_reach_19 (fun v4 σ3 h => ?_)
      refine r_istore_n (pc := 22) (i := 3) C dX4_reach_22 rfl (by decide) ?_
      refine r_goto (pc := 23) (tgt := 10) C dX4_reach_23 (by decide) ?_
      refine r_pick (lv' := [(0, rv B a0), (2, .int z3), (3, .int v4)]) [0, 2, 3] rfl ?_
      exact ih _ _ _ h
theorem w_X4_reach {B F : Nat} {d : Nat} {σ : MM} {a0 : Nat} {x1 : Int32} {rf : Int32} {σf : MM} (hd : 2 ≤ d) (h : g_X4_reach F σ a0 x1 = some (rf, σf)) : xMA B yX4_reach cX4_reach 4 (some .int) d 0 0 [rv B a0, .int x1] σ (some (.int rf)) σf := by
  refine xMA.of (by decide +kernel) (Nat.le_of_ble_eq_true rfl) (cat_rv (cat_int cat_nil)) (fun G C E => ?_)
  unfold g_X4_reach at h
  obtain ⟨-, h⟩ := r_ck h
  refine r_iconst (pc := 0) (v := 1) C dX4_reach_0 (by decide) ?_
  refine r_iload_n (pc := 1) (i := 1) C dX4_reach_1 rfl rfl ?_
  refine r_ishl (pc := 2) C dX4_reach_2 ?_
  refine r_istore_n (pc := 3) (i := 2) C dX4_reach_3 rfl (by decide) ?_
  refine r_aload_n (pc := 4) (i := 0) C dX4_reach_4 rfl rfl ?_
  refine r_iload_n (pc := 5) (i := 2) C dX4_reach_5 rfl rfl ?_
  refine r_callVI (pc := 6) (As := [.int ((1 : Int32) <<< (x1 &&& 31))]) (st := []) C cs_X4_20_X4_next h (fun _ _ e => w_X4_next (Nat.le_refl 1) e) (fun _ _ e => t_X4_next e) (Nat.le_trans (Nat.le_of_ble_eq_true rfl) hd) (Nat.le_of_ble_eq_true rfl) dX4_reach_6 (fun v2 σ1 h => ?_)
  refine r_istore_n (pc := 9) (i := 3) C dX4_reach_9 rfl (by decide) ?_
  refine r_pick (lv' := [(0, rv B a0), (2, .int ((1 : Int32) <<< (x1 &&& 31))), (3, .int v2)]) [0, 2, 3] rfl ?_
  refine wl_X4_reach_10 hd C E (fun r2_6 σ5 h => ?_) _ _ _ _ h
  refine r_iload_n (pc := 26) (i := 2) C dX4_reach_26 rfl rfl ?_
  exact r_iret (pc := 27) C rfl dX4_reach_27 h E
theorem t_X4_reach {F : Nat} {σ : MM} {a0 : Nat} {x1 : Int32} {r : Int32 × MM} (h : g_X4_reach F σ a0 x1 = some r) : mT σ a0 = (3, 1) := by
  unfold g_X4_reach at h
  exact (r_ck h).1
theorem yd_X4_reach : xYd yX4_reach 1 := ⟨by decide +kernel, by decide +kernel, by decide +kernel⟩
theorem cs_X4_27_X4_reach : xCV RX4 27 yX4_reach cX4_reach 4 (some .int) 3 1 1 := ⟨by decide, by decide, _, rfl, yd_X4_reach, Or.inl ⟨rfl, lw_V q1090 q1091 q1092 q120 q1093⟩⟩
theorem yd_X4_gets : xYd yX4_gets 1 := ⟨by decide +kernel, by decide +kernel, by decide +kernel⟩
theorem cs_X4_30_X4_gets : xCV RX4 30 yX4_gets cX4_gets 4 (some .int) 3 1 1 := ⟨by decide, by decide, _, rfl, yd_X4_gets, Or.inl ⟨rfl, lw_V q1099 q1065 q1066 q120 q1067⟩⟩
def l_X4_areOneRow_14 (K : Int32 → Int32 → MM → Option (Int32 × MM)) (F : Nat) (a0 : Nat) (x1 : Int32) (x2 : Int32) : Nat → Int32 → Int32 → Int32 → MM → Option (Int32 × MM)
  | 0, _, _, _, _ => none
  | f + 1, z3, z4, z5, σ => if z5 < 10 then (bq (g_X4_owes F σ a0 z5) fun v4 σ3 => bq (g_X4_gets F σ3 a0 z5) fun v6 σ5 => if 1 < (jabs ((v4 - v6))) then (some (0, σ5)) else (bq (g_X4_owes F σ5 a0 z5) fun v10 σ9 => jn (fun  (σ11 : MM) => jn (fun (w14 : Int32) (σ13 : MM) => jn (fun (w17 : Int32) (σ16 : MM) => l_X4_areOneRow_14 K F a0 x1 x2 f ((z3 + w14)) ((z4 + w17)) ((z5 + 1)) σ16) (fun k18 => if (v4 - v6) = (-1) then (k18 1 σ13) else (k18 0 σ13))) (fun k15 => if (v4 - v6) = 1 then (k15 1 σ11) else (k15 0 σ11))) (fun k12 => if 0 < v10 then (bq (g_X0_has F σ9 x2 z5) fun v20 σ19 => if v20 = 0 then (some (0, σ19)) else (k12 σ19)) else (k12 σ9)))) else (K z3 z4 σ)
def g_X4_areOneRow (F : Nat) (σ : MM) (a0 : Nat) (x1 : Int32) : Option (Int32 × MM) := if mT σ a0 = (3, 1) then (bq (g_X4_reach F σ a0 x1) fun v2 σ1 => l_X4_areOneRow_14 (fun (r3_22 : Int32) (r4_23 : Int32) (σ21 : MM) => if r3_22 = 0 then (some (1, σ21)) else (if r3_22 = 1 then (if r4_23 = 1 then (bq (g_X4_owes F σ21 a0 x1) fun v25 σ24 => bq (g_X4_gets F σ24 a0 x1) fun v27 σ26 => if (v25 - v27) = 1 then (some (1, σ26)) else (some (0, σ26))) else (some (0, σ21))) else (some (0, σ21)))) F a0 x1 v2 F 0 0 0 σ1) else none
theorem wl_X4_areOneRow_14 {B : Nat} {G : XG} {d : Nat} {rf : Int32} {σf : MM} (hd : 3 ≤ d) (C : xC B G yX4_areOneRow cX4_areOneRow 7 (some .boolean) d 0 0) (E : xEnd B G (some (.int rf)) σf 0 0) {K : Int32 → Int32 → MM → Option (Int32 × MM)} {F : Nat} {a0 : Nat} {x1 : Int32} {x2 : Int32} (hK : ∀ (q3 : Int32) (q4 : Int32) (σ : MM), K q3 q4 σ = some (rf, σf) → xV B G 0 0 σ 101 [(0, rv B a0), (1, .int x1), (3, .int q3), (4, .int q4)] []) : ∀ (f : Nat) (z3 : Int32) (z4 : Int32) (z5 : Int32) (σ : MM), l_X4_areOneRow_14 K F a0 x1 x2 f z3 z4 z5 σ = some (rf, σf) → xV B G 0 0 σ 14 [(0, rv B a0), (1, .int x1), (2, .int x2), (3, .int z3), (4, .int z4), (5, .int z5)] [] := by
  intro f
  induction f with
  | zero =>
    intro z3 z4 z5 σ h
    have h : none = some (rf, σf) := h
    cases h
  | succ f ih =>
    intro z3 z4 z5 σ h
    rw [l_X4_areOneRow_14.eq_2] at h
    refine r_iload (pc := 14) (i := 5) C dX4_areOneRow_14 rfl ?_
    refine r_bipush (pc := 16) (v := 10) C dX4_areOneRow_16 (by decide) ?_
    refine r_icmpge (pc := 18) (tgt := 101) C dX4_areOneRow_18 (by decide) h (fun h => ?_) (fun h => ?_)
    · refine r_pick (lv' := [(0, rv B a0), (1, .int x1), (3, .int z3), (4, .int z4)]) [0, 1, 3, 4] rfl ?_
      exact hK _ _ _ h
    · refine r_aload_n (pc := 21) (i := 0) C dX4_areOneRow_21 rfl rfl ?_
      refine r_iload (pc := 22) (i := 5) C dX4_areOneRow_22 rfl ?_
      refine r_callVI (pc := 24) (As := [.int z5]) (st := []) C cs_X4_16_X4_owes h (fun _ _ e => w_X4_owes (Nat.le_refl 0) e) (fun _ _ e => t_X4_owes e) (Nat.le_trans (Nat.le_of_ble_eq_true rfl) hd) (Nat.le_of_ble_eq_true rfl) dX4_areOneRow_24 (fun v4 σ3 h => ?_)
      refine r_aload_n (pc := 27) (i := 0) C dX4_areOneRow_27 rfl rfl ?_
      refine r_iload (pc := 28) (i := 5) C dX4_areOneRow_28 rfl ?_
      refine r_callVI (pc := 30) (As := [.int z5]) (st := [.int v4]) C cs_X4_30_X4_gets h (fun _ _ e => w_X4_gets (Nat.le_refl 0) e) (fun _ _ e => t_X4_gets e) (Nat.le_trans (Nat.le_of_ble_eq_true rfl) hd) (Nat.le_of_ble_eq_true rfl) dX4_areOneRow_30 (fun v6 σ5 h => ?_)
      refine r_isub (pc := 33) C dX4_areOneRow_33 ?_
      refine r_istore (pc := 34) (i := 6) C dX4_areOneRow_34 (by decide) ?_
      refine r_iload (pc := 36) (i := 6) C dX4_areOneRow_36 rfl ?_
      refine r_mabs (pc := 38) C q1100 q913 q126 q914 (Nat.le_trans (Nat.le_of_ble_eq_true rfl) hd) (Nat.le_of_ble_eq_true rfl) (Nat.le_of_ble_eq_true rfl) (Nat.le_of_ble_eq_true rfl) dX4_areOneRow_38 ?_
      refine r_iconst (pc := 41) (v := 1) C dX4_areOneRow_41 (by decide) ?_
      refine r_icmpgt (pc := 42) (tgt := 63) C dX4_areOneRow_42 (by decide) h (fun h => ?_) (fun h => ?_)
      · refine r_iconst (pc := 63) (v := 0) C dX4_areOneRow_63 (by decide) ?_
        exact r_zretL (pc := 64) C rfl dX4_areOneRow_64 (Or.inl rfl) h E
      · refine r_aload_n (pc := 45) (i := 0) C dX4_areOneRow_45 rfl rfl ?_
        refine r_iload (pc := 46) (i := 5) C dX4_areOneRow_46 rfl ?_
        refine r_callVI (pc := 48) (As := [.int z5]) (st := []) C cs_X4_16_X4_owes h (fun _ _ e => w_X4_owes (Nat.le_refl 0) e) (fun _ _ e => t_X4_owes e) (Nat.le_trans (Nat.le_of_ble_eq_true rfl) hd) (Nat.le_of_ble_eq_true rfl) dX4_areOneRow_48 (fun v10 σ9 h => ?_)
        refine r_jn (fun k9 => ∀  (σ11 : MM), k9 σ11 = some (rf, σf) → xV B G 0 0 σ11 65 [(0, rv B a0), (1, .int x1), (2, .int x2), (3, .int z3), (4, .int z4), (5, .int z5), (6, .int (v4 - v6))] []) h (fun  σ11 h => ?_) (fun k12 hk12 h => ?_)
        · refine r_iload_n (pc := 65) (i := 3) C dX4_areOneRow_65 rfl rfl ?_
          refine r_iload (pc := 66) (i := 6) C dX4_areOneRow_66 rfl ?_
          refine r_iconst (pc := 68) (v := 1) C dX4_areOneRow_68 (by decide) ?_
          refine r_jn (fun k9 => ∀ (w14 : Int32) (σ13 : MM), k9 w14 σ13 = some (rf, σf) → xV B G 0 0 σ13 77 [(0, rv B a0), (1, .int x1), (2, .int x2), (4, .int z4), (5, .int z5), (6, .int (v4 - v6))] [.int w14, .int z3]) h (fun w14 σ13 h => ?_) (fun k15 hk15 h => ?_)
          · refine r_iadd (pc := 77) C dX4_areOneRow_77 ?_
            refine r_istore_n (pc := 78) (i := 3) C dX4_areOneRow_78 rfl (by decide) ?_
            refine r_iload (pc := 79) (i := 4) C dX4_areOneRow_79 rfl ?_
            refine r_iload (pc := 81) (i := 6) C dX4_areOneRow_81 rfl ?_
            refine r_iconst (pc := 83) (v := (-1)) C dX4_areOneRow_83 (by decide) ?_
            refine r_jn (fun k9 => ∀ (w17 : Int32) (σ16 : MM), k9 w17 σ16 = some (rf, σf) → xV B G 0 0 σ16 92 [(0, rv B a0), (1, .int x1), (2, .int x2), (3, .int (z3 + w14)), (5, .int z5)] [.int w17, .int z4]) h (fun w17 σ16 h => ?_) (fun k18 hk18 h => ?_)
            · refine r_iadd (pc := 92) C dX4_areOneRow_92 ?_
              refine r_istore (pc := 93) (i := 4) C dX4_areOneRow_93 (by decide) ?_
              refine r_iinc (pc := 95) (i := 5) (v := (z5 + 1)) C dX4_areOneRow_95 rfl rfl (by decide) ?_
              refine r_goto (pc := 98) (tgt := 14) C dX4_areOneRow_98 (by decide) ?_
              refine r_pick (lv' := [(0, rv B a0), (1, .int x1), (2, .int x2), (3, .int (z3 + w14)), (4, .int (z4 + w17)), (5, .int (z5 + 1))]) [0, 1, 2, 3, 4, 5] rfl ?_
              exact ih _ _ _ _ h
            · refine r_icmpne (pc := 84) (tgt := 91) C dX4_areOneRow_84 (by decide) h (fun h => ?_) (fun h => ?_)
              · refine r_iconst (pc := 91) (v := 0) C dX4_areOneRow_91 (by decide) ?_
                refine r_pick (lv' := [(0, rv B a0), (1, .int x1), (2, .int x2), (3, .int (z3 + w14)), (5, .int z5)]) [0, 1, 2, 3, 5] rfl ?_
                exact hk18 _ _ h
              · refine r_iconst (pc := 87) (v := 1) C dX4_areOneRow_87 (by decide) ?_
                refine r_goto (pc := 88) (tgt := 92) C dX4_areOneRow_88 (by decide) ?_
                refine r_pick (lv' := [(0, rv B a0), (1, .int x1), (2, .int x2), (3, .int (z3 + w14)), (5, .int z5)]) [0, 1, 2, 3, 5] rfl ?_
                exact hk18 _ _ h
          · refine r_icmpne (pc := 69) (tgt := 76) C dX4_areOneRow_69 (by decide) h (fun h => ?_) (fun h => ?_)
            · refine r_iconst (pc := 76) (v := 0) C dX4_areOneRow_76 (by decide) ?_
              refine r_pick (lv' := [(0, rv B a0), (1, .int x1), (2, .int x2), (4, .int z4), (5, .int z5), (6, .int (v4 - v6))]) [0, 1, 2, 4, 5, 6] rfl ?_
              exact hk15 _ _ h
            · refine r_iconst (pc := 72) (v := 1) C dX4_areOneRow_72 (by decide) ?_
              refine r_goto (pc := 73) (tgt := 77) C dX4_areOneRow_73 (by decide) ?_
              refine r_pick (lv' := [(0, rv B a0), (1, .int x1), (2, .int x2), (4, .int z4), (5, .int z5), (6, .int (v4 - v6))]) [0, 1, 2, 4, 5, 6] rfl ?_
              exact hk15 _ _ h
        · refine r_ifle (pc := 51) (tgt := 65) C dX4_areOneRow_51 (by decide) h (fun h => ?_) (fun h => ?_)
          · refine r_pick (lv' := [(0, rv B a0), (1, .int x1), (2, .int x2), (3, .int z3), (4, .int z4), (5, .int z5), (6, .int (v4 - v6))]) [0, 1, 2, 3, 4, 5, 6] rfl ?_
            exact hk12 _ h
          · refine r_iload_n (pc := 54) (i := 2) C dX4_areOneRow_54 rfl rfl ?_
            refine r_iload (pc := 55) (i := 5) C dX4_areOneRow_55 rfl ?_
            refine r_callSI (pc := 57) (As := [.int x2, .int z5]) (st := []) C cs_X4_23_X0_has h (fun _ _ e => w_X0_has (Nat.le_refl 0) e) (Nat.le_trans (Nat.le_of_ble_eq_true rfl) hd) (Nat.le_of_ble_eq_true rfl) dX4_areOneRow_57 (fun v20 σ19 h => ?_)
            refine r_ifne (pc := 60) (tgt := 65) C dX4_areOneRow_60 (by decide) h (fun h => ?_) (fun h => ?_)
            · refine r_pick (lv' := [(0, rv B a0), (1, .int x1), (2, .int x2), (3, .int z3), (4, .int z4), (5, .int z5), (6, .int (v4 - v6))]) [0, 1, 2, 3, 4, 5, 6] rfl ?_
              exact hk12 _ h
            · refine r_iconst (pc := 63) (v := 0) C dX4_areOneRow_63 (by decide) ?_
              exact r_zretL (pc := 64) C rfl dX4_areOneRow_64 (Or.inl rfl) h E
theorem w_X4_areOneRow {B F : Nat} {d : Nat} {σ : MM} {a0 : Nat} {x1 : Int32} {rf : Int32} {σf : MM} (hd : 3 ≤ d) (h : g_X4_areOneRow F σ a0 x1 = some (rf, σf)) : xMA B yX4_areOneRow cX4_areOneRow 7 (some .boolean) d 0 0 [rv B a0, .int x1] σ (some (.int rf)) σf := by
  refine xMA.of (by decide +kernel) (Nat.le_of_ble_eq_true rfl) (cat_rv (cat_int cat_nil)) (fun G C E => ?_)
  unfold g_X4_areOneRow at h
  obtain ⟨-, h⟩ := r_ck h
  refine r_aload_n (pc := 0) (i := 0) C dX4_areOneRow_0 rfl rfl ?_
  refine r_iload_n (pc := 1) (i := 1) C dX4_areOneRow_1 rfl rfl ?_
  refine r_callVI (pc := 2) (As := [.int x1]) (st := []) C cs_X4_27_X4_reach h (fun _ _ e => w_X4_reach (Nat.le_refl 2) e) (fun _ _ e => t_X4_reach e) (Nat.le_trans (Nat.le_of_ble_eq_true rfl) hd) (Nat.le_of_ble_eq_true rfl) dX4_areOneRow_2 (fun v2 σ1 h => ?_)
  refine r_istore_n (pc := 5) (i := 2) C dX4_areOneRow_5 rfl (by decide) ?_
  refine r_iconst (pc := 6) (v := 0) C dX4_areOneRow_6 (by decide) ?_
  refine r_istore_n (pc := 7) (i := 3) C dX4_areOneRow_7 rfl (by decide) ?_
  refine r_iconst (pc := 8) (v := 0) C dX4_areOneRow_8 (by decide) ?_
  refine r_istore (pc := 9) (i := 4) C dX4_areOneRow_9 (by decide) ?_
  refine r_iconst (pc := 11) (v := 0) C dX4_areOneRow_11 (by decide) ?_
  refine r_istore (pc := 12) (i := 5) C dX4_areOneRow_12 (by decide) ?_
  refine r_pick (lv' := [(0, rv B a0), (1, .int x1), (2, .int v2), (3, .int 0), (4, .int 0), (5, .int 0)]) [0, 1, 2, 3, 4, 5] rfl ?_
  refine wl_X4_areOneRow_14 hd C E (fun r3_22 r4_23 σ21 h => ?_) _ _ _ _ _ h
  refine r_iload_n (pc := 101) (i := 3) C dX4_areOneRow_101 rfl rfl ?_
  refine r_ifeq (pc := 102) (tgt := 131) C dX4_areOneRow_102 (by decide) h (fun h => ?_) (fun h => ?_)
  · refine r_iconst (pc := 131) (v := 1) C dX4_areOneRow_131 (by decide) ?_
    refine r_goto (pc := 132) (tgt := 136) C dX4_areOneRow_132 (by decide) ?_
    exact r_zretL (pc := 136) C rfl dX4_areOneRow_136 (Or.inr rfl) h E
  · refine r_iload_n (pc := 105) (i := 3) C dX4_areOneRow_105 rfl rfl ?_
    refine r_iconst (pc := 106) (v := 1) C dX4_areOneRow_106 (by decide) ?_
    refine r_icmpne (pc := 107) (tgt := 135) C dX4_areOneRow_107 (by decide) h (fun h => ?_) (fun h => ?_)
    · refine r_iconst (pc := 135) (v := 0) C dX4_areOneRow_135 (by decide) ?_
      exact r_zretL (pc := 136) C rfl dX4_areOneRow_136 (Or.inl rfl) h E
    · refine r_iload (pc := 110) (i := 4) C dX4_areOneRow_110 rfl ?_
      refine r_iconst (pc := 112) (v := 1) C dX4_areOneRow_112 (by decide) ?_
      refine r_icmpne (pc := 113) (tgt := 135) C dX4_areOneRow_113 (by decide) h (fun h => ?_) (fun h => ?_)
      · refine r_iconst (pc := 135) (v := 0) C dX4_areOneRow_135 (by decide) ?_
        exact r_zretL (pc := 136) C rfl dX4_areOneRow_136 (Or.inl rfl) h E
      · refine r_aload_n (pc := 116) (i := 0) C dX4_areOneRow_116 rfl rfl ?_
        refine r_iload_n (pc := 117) (i := 1) C dX4_areOneRow_117 rfl rfl ?_
        refine r_callVI (pc := 118) (As := [.int x1]) (st := []) C cs_X4_16_X4_owes h (fun _ _ e => w_X4_owes (Nat.le_refl 0) e) (fun _ _ e => t_X4_owes e) (Nat.le_trans (Nat.le_of_ble_eq_true rfl) hd) (Nat.le_of_ble_eq_true rfl) dX4_areOneRow_118 (fun v25 σ24 h => ?_)
        refine r_aload_n (pc := 121) (i := 0) C dX4_areOneRow_121 rfl rfl ?_
        refine r_iload_n (pc := 122) (i := 1) C dX4_areOneRow_122 rfl rfl ?_
        refine r_callVI (pc := 123) (As := [.int x1]) (st := [.int v25]) C cs_X4_30_X4_gets h (fun _ _ e => w_X4_gets (Nat.le_refl 0) e) (fun _ _ e => t_X4_gets e) (Nat.le_trans (Nat.le_of_ble_eq_true rfl) hd) (Nat.le_of_ble_eq_true rfl) dX4_areOneRow_123 (fun v27 σ26 h => ?_)
        refine r_isub (pc := 126) C dX4_areOneRow_126 ?_
        refine r_iconst (pc := 127) (v := 1) C dX4_areOneRow_127 (by decide) ?_
        refine r_icmpne (pc := 128) (tgt := 135) C dX4_areOneRow_128 (by decide) h (fun h => ?_) (fun h => ?_)
        · refine r_iconst (pc := 135) (v := 0) C dX4_areOneRow_135 (by decide) ?_
          exact r_zretL (pc := 136) C rfl dX4_areOneRow_136 (Or.inl rfl) h E
        · refine r_iconst (pc := 131) (v := 1) C dX4_areOneRow_131 (by decide) ?_
          refine r_goto (pc := 132) (tgt := 136) C dX4_areOneRow_132 (by decide) ?_
          exact r_zretL (pc := 136) C rfl dX4_areOneRow_136 (Or.inr rfl) h E
theorem t_X4_areOneRow {F : Nat} {σ : MM} {a0 : Nat} {x1 : Int32} {r : Int32 × MM} (h : g_X4_areOneRow F σ a0 x1 = some r) : mT σ a0 = (3, 1) := by
  unfold g_X4_areOneRow at h
  exact (r_ck h).1
def l_X4_clear_10 (K : MM → Option (Nat × MM)) (F : Nat) (a0 : Nat) (x1 : Int32) : Nat → Int32 → MM → Option (Nat × MM)
  | 0, _, _ => none
  | f + 1, z2, σ => if z2 < 10 then ((gP σ a0 3 1 0).bind fun p1 => (aP σ p1 22 x1).bind fun p2 => (sI σ p2 z2 0).bind fun σ3 => l_X4_clear_10 K F a0 x1 f ((z2 + 1)) σ3) else (K σ)
def l_X4_clear_2 (K : MM → Option (Nat × MM)) (F : Nat) (a0 : Nat) : Nat → Int32 → MM → Option (Nat × MM)
  | 0, _, _ => none
  | f + 1, z1, σ => if z1 < 10 then (l_X4_clear_10 (fun (σ4 : MM) => l_X4_clear_2 K F a0 f ((z1 + 1)) σ4) F a0 z1 F 0 σ) else (K σ)
def g_X4_clear (F : Nat) (σ : MM) (a0 : Nat) : Option (Nat × MM) := if mT σ a0 = (3, 1) then (l_X4_clear_2 (fun (σ5 : MM) => some (a0, σ5)) F a0 F 0 σ) else none
theorem wl_X4_clear_10 {B : Nat} {G : XG} {d : Nat} {rf : Nat} {σf : MM} (hd : 0 ≤ d) (C : xC B G yX4_clear cX4_clear 3 (some (.object "OneCoin$Debts")) d 0 0) (E : xEnd B G (some (rv B rf)) σf 0 0) {K : MM → Option (Nat × MM)} {F : Nat} {a0 : Nat} {x1 : Int32} (hK : ∀ (σ : MM), K σ = some (rf, σf) → xV B G 0 0 σ 31 [(0, rv B a0), (1, .int x1)] []) : ∀ (f : Nat) (z2 : Int32) (σ : MM), l_X4_clear_10 K F a0 x1 f z2 σ = some (rf, σf) → xV B G 0 0 σ 10 [(0, rv B a0), (1, .int x1), (2, .int z2)] [] := by
  intro f
  induction f with
  | zero =>
    intro z2 σ h
    have h : none = some (rf, σf) := h
    cases h
  | succ f ih =>
    intro z2 σ h
    rw [l_X4_clear_10.eq_2] at h
    refine r_iload_n (pc := 10) (i := 2) C dX4_clear_10 rfl rfl ?_
    refine r_bipush (pc := 11) (v := 10) C dX4_clear_11 (by decide) ?_
    refine r_icmpge (pc := 13) (tgt := 31) C dX4_clear_13 (by decide) h (fun h => ?_) (fun h => ?_)
    · refine r_pick (lv' := [(0, rv B a0), (1, .int x1)]) [0, 1] rfl ?_
      exact hK _ h
    · refine r_aload_n (pc := 16) (i := 0) C dX4_clear_16 rfl rfl ?_
      refine r_getP (pc := 17) C fd_X4_11 rfl dX4_clear_17 h (fun p1 h => ?_)
      refine r_iload_n (pc := 20) (i := 1) C dX4_clear_20 rfl rfl ?_
      refine r_aald (pc := 21) 0 (by decide) C dX4_clear_21 h (fun p2 h => ?_)
      refine r_iload_n (pc := 22) (i := 2) C dX4_clear_22 rfl rfl ?_
      refine r_iconst (pc := 23) (v := 0) C dX4_clear_23 (by decide) ?_
      refine r_iast (pc := 24) C dX4_clear_24 h (fun σ3 h => ?_)
      refine r_iinc (pc := 25) (i := 2) (v := (z2 + 1)) C dX4_clear_25 rfl rfl (by decide) ?_
      refine r_goto (pc := 28) (tgt := 10) C dX4_clear_28 (by decide) ?_
      refine r_pick (lv' := [(0, rv B a0), (1, .int x1), (2, .int (z2 + 1))]) [0, 1, 2] rfl ?_
      exact ih _ _ h
theorem wl_X4_clear_2 {B : Nat} {G : XG} {d : Nat} {rf : Nat} {σf : MM} (hd : 0 ≤ d) (C : xC B G yX4_clear cX4_clear 3 (some (.object "OneCoin$Debts")) d 0 0) (E : xEnd B G (some (rv B rf)) σf 0 0) {K : MM → Option (Nat × MM)} {F : Nat} {a0 : Nat} (hK : ∀ (σ : MM), K σ = some (rf, σf) → xV B G 0 0 σ 37 [(0, rv B a0)] []) : ∀ (f : Nat) (z1 : Int32) (σ : MM), l_X4_clear_2 K F a0 f z1 σ = some (rf, σf) → xV B G 0 0 σ 2 [(0, rv B a0), (1, .int z1)] [] := by
  intro f
  induction f with
  | zero =>
    intro z1 σ h
    have h : none = some (rf, σf) := h
    cases h
  | succ f ih =>
    intro z1 σ h
    rw [l_X4_clear_2.eq_2] at h
    refine r_iload_n (pc := 2) (i := 1) C dX4_clear_2 rfl rfl ?_
    refine r_bipush (pc := 3) (v := 10) C dX4_clear_3 (by decide) ?_
    refine r_icmpge (pc := 5) (tgt := 37) C dX4_clear_5 (by decide) h (fun h => ?_) (fun h => ?_)
    · refine r_pick (lv' := [(0, rv B a0)]) [0] rfl ?_
      exact hK _ h
    · refine r_iconst (pc := 8) (v := 0) C dX4_clear_8 (by decide) ?_
      refine r_istore_n (pc := 9) (i := 2) C dX4_clear_9 rfl (by decide) ?_
      refine r_pick (lv' := [(0, rv B a0), (1, .int z1), (2, .int 0)]) [0, 1, 2] rfl ?_
      refine wl_X4_clear_10 hd C E (fun  σ4 h => ?_) _ _ _ h
      refine r_iinc (pc := 31) (i := 1) (v := (z1 + 1)) C dX4_clear_31 rfl rfl (by decide) ?_
      refine r_goto (pc := 34) (tgt := 2) C dX4_clear_34 (by decide) ?_
      refine r_pick (lv' := [(0, rv B a0), (1, .int (z1 + 1))]) [0, 1] rfl ?_
      exact ih _ _ h
theorem w_X4_clear {B F : Nat} {d : Nat} {σ : MM} {a0 : Nat} {rf : Nat} {σf : MM} (hd : 0 ≤ d) (h : g_X4_clear F σ a0 = some (rf, σf)) : xMA B yX4_clear cX4_clear 3 (some (.object "OneCoin$Debts")) d 0 0 [rv B a0] σ (some (rv B rf)) σf := by
  refine xMA.of (by decide +kernel) (Nat.le_of_ble_eq_true rfl) (cat_rv cat_nil) (fun G C E => ?_)
  unfold g_X4_clear at h
  obtain ⟨-, h⟩ := r_ck h
  refine r_iconst (pc := 0) (v := 0) C dX4_clear_0 (by decide) ?_
  refine r_istore_n (pc := 1) (i := 1) C dX4_clear_1 rfl (by decide) ?_
  refine r_pick (lv' := [(0, rv B a0), (1, .int 0)]) [0, 1] rfl ?_
  refine wl_X4_clear_2 hd C E (fun  σ5 h => ?_) _ _ _ h
  refine r_aload_n (pc := 37) (i := 0) C dX4_clear_37 rfl rfl ?_
  exact r_aret (pc := 38) C rfl dX4_clear_38 h E
theorem t_X4_clear {F : Nat} {σ : MM} {a0 : Nat} {r : Nat × MM} (h : g_X4_clear F σ a0 = some r) : mT σ a0 = (3, 1) := by
  unfold g_X4_clear at h
  exact (r_ck h).1
def g_X2_at (F : Nat) (σ : MM) (a0 : Nat) (x1 : Int32) (x2 : Int32) : Option (Nat × MM) := if mT σ a0 = (1, 10) then ((pI σ a0 1 10 1 0).bind fun σ1 => (pI σ1 a0 1 10 2 0).bind fun σ2 => (pI σ2 a0 1 10 3 0).bind fun σ3 => (pI σ3 a0 1 10 4 0).bind fun σ4 => (pI σ4 a0 1 10 5 0).bind fun σ5 => (pI σ5 a0 1 10 6 0).bind fun σ6 => (pI σ6 a0 1 10 7 x1).bind fun σ7 => (pI σ7 a0 1 10 8 x2).bind fun σ8 => some (a0, σ8)) else none
theorem w_X2_at {B F : Nat} {d : Nat} {σ : MM} {a0 : Nat} {x1 : Int32} {x2 : Int32} {rf : Nat} {σf : MM} (hd : 0 ≤ d) (h : g_X2_at F σ a0 x1 x2 = some (rf, σf)) : xMA B yX2_at cX2_at 3 (some (.object "OneCoin$Moment")) d 0 0 [rv B a0, .int x1, .int x2] σ (some (rv B rf)) σf := by
  refine xMA.of (by decide +kernel) (Nat.le_of_ble_eq_true rfl) (cat_rv (cat_int (cat_int cat_nil))) (fun G C E => ?_)
  unfold g_X2_at at h
  obtain ⟨-, h⟩ := r_ck h
  refine r_aload_n (pc := 0) (i := 0) C dX2_at_0 rfl rfl ?_
  refine r_iconst (pc := 1) (v := 0) C dX2_at_1 (by decide) ?_
  refine r_putI (pc := 2) C fd_X2_13 ft_X2_1 dX2_at_2 h (fun σ1 h => ?_)
  refine r_aload_n (pc := 5) (i := 0) C dX2_at_5 rfl rfl ?_
  refine r_iconst (pc := 6) (v := 0) C dX2_at_6 (by decide) ?_
  refine r_putI (pc := 7) C fd_X2_17 ft_X2_2 dX2_at_7 h (fun σ2 h => ?_)
  refine r_aload_n (pc := 10) (i := 0) C dX2_at_10 rfl rfl ?_
  refine r_iconst (pc := 11) (v := 0) C dX2_at_11 (by decide) ?_
  refine r_putI (pc := 12) C fd_X2_20 ft_X2_3 dX2_at_12 h (fun σ3 h => ?_)
  refine r_aload_n (pc := 15) (i := 0) C dX2_at_15 rfl rfl ?_
  refine r_iconst (pc := 16) (v := 0) C dX2_at_16 (by decide) ?_
  refine r_putI (pc := 17) C fd_X2_23 ft_X2_4 dX2_at_17 h (fun σ4 h => ?_)
  refine r_aload_n (pc := 20) (i := 0) C dX2_at_20 rfl rfl ?_
  refine r_iconst (pc := 21) (v := 0) C dX2_at_21 (by decide) ?_
  refine r_putI (pc := 22) C fd_X2_26 ft_X2_5 dX2_at_22 h (fun σ5 h => ?_)
  refine r_aload_n (pc := 25) (i := 0) C dX2_at_25 rfl rfl ?_
  refine r_iconst (pc := 26) (v := 0) C dX2_at_26 (by decide) ?_
  refine r_putI (pc := 27) C fd_X2_29 ft_X2_6 dX2_at_27 h (fun σ6 h => ?_)
  refine r_aload_n (pc := 30) (i := 0) C dX2_at_30 rfl rfl ?_
  refine r_iload_n (pc := 31) (i := 1) C dX2_at_31 rfl rfl ?_
  refine r_putI (pc := 32) C fd_X2_32 ft_X2_7 dX2_at_32 h (fun σ7 h => ?_)
  refine r_aload_n (pc := 35) (i := 0) C dX2_at_35 rfl rfl ?_
  refine r_iload_n (pc := 36) (i := 2) C dX2_at_36 rfl rfl ?_
  refine r_putI (pc := 37) C fd_X2_35 ft_X2_8 dX2_at_37 h (fun σ8 h => ?_)
  refine r_aload_n (pc := 40) (i := 0) C dX2_at_40 rfl rfl ?_
  exact r_aret (pc := 41) C rfl dX2_at_41 h E
theorem t_X2_at {F : Nat} {σ : MM} {a0 : Nat} {x1 : Int32} {x2 : Int32} {r : Nat × MM} (h : g_X2_at F σ a0 x1 x2 = some r) : mT σ a0 = (1, 10) := by
  unfold g_X2_at at h
  exact (r_ck h).1
def g_X0_held (F : Nat) (σ : MM) (x0 : Int32) (x1 : Int32) : Option (Int32 × MM) := some ((jmax 0 ((jmin x1 x0))), σ)
theorem w_X0_held {B F : Nat} {d : Nat} {σ : MM} {x0 : Int32} {x1 : Int32} {rf : Int32} {σf : MM} (hd : 1 ≤ d) (h : g_X0_held F σ x0 x1 = some (rf, σf)) : xMA B yX0_held cX0_held 2 (some .int) d 0 0 [.int x0, .int x1] σ (some (.int rf)) σf := by
  refine xMA.of (by decide +kernel) (Nat.le_of_ble_eq_true rfl) (cat_int (cat_int cat_nil)) (fun G C E => ?_)
  unfold g_X0_held at h
  refine r_iconst (pc := 0) (v := 0) C dX0_held_0 (by decide) ?_
  refine r_iload_n (pc := 1) (i := 1) C dX0_held_1 rfl rfl ?_
  refine r_iload_n (pc := 2) (i := 0) C dX0_held_2 rfl rfl ?_
  refine r_mmin (pc := 3) C q1008 q499 q126 q500 (Nat.le_trans (Nat.le_of_ble_eq_true rfl) hd) (Nat.le_of_ble_eq_true rfl) (Nat.le_of_ble_eq_true rfl) (Nat.le_of_ble_eq_true rfl) dX0_held_3 ?_
  refine r_mmax (pc := 6) C q915 q496 q126 q497 (Nat.le_trans (Nat.le_of_ble_eq_true rfl) hd) (Nat.le_of_ble_eq_true rfl) (Nat.le_of_ble_eq_true rfl) (Nat.le_of_ble_eq_true rfl) dX0_held_6 ?_
  exact r_iret (pc := 9) C rfl dX0_held_9 h E
theorem fd_X2_1 : xFg RX2 1 1 10 9 := ⟨_, rfl, rfl, by decide, by decide, in_X2, Or.inl q167⟩
theorem ft_X2_9 : xFt 1 9 (.object "OneCoin") true := ⟨_, rfl, by decide +kernel, rfl, rfl⟩
theorem fd_X2_69 : xFg RX2 69 0 22 8 := ⟨_, rfl, rfl, by decide, by decide, in_X0, Or.inr ⟨_, in_nest q322 rfl⟩⟩
theorem ft_X0_8 : xFt 0 8 (.object "OneCoin$Text") false := ⟨_, rfl, by decide +kernel, rfl, rfl⟩
theorem yd_X5_tells : xYd yX5_tells 2 := ⟨by decide +kernel, by decide +kernel, by decide +kernel⟩
theorem cs_X2_73_X5_tells : xCV RX2 73 yX5_tells cX5_tells 4 (some .int) 4 4 2 := ⟨by decide, by decide, _, rfl, yd_X5_tells, Or.inl ⟨rfl, lw_V q957 q958 q959 q121 q960⟩⟩
theorem yd_X0_held : xYd yX0_held 2 := ⟨by decide +kernel, by decide +kernel, by decide +kernel⟩
theorem cs_X2_79_X0_held : xCS RX2 79 yX0_held cX0_held 2 (some .int) 2 := ⟨by decide, yd_X0_held, Or.inr ⟨lw_meth q1007, q116, _, in_nest q1005 rfl, q1006⟩⟩
def g_X2_tells (F : Nat) (σ : MM) (a0 : Nat) (x1 : Int32) (x2 : Int32) : Option (Int32 × MM) := if mT σ a0 = (1, 10) then ((gP σ a0 1 10 9).bind fun p1 => (gP σ p1 0 22 8).bind fun p2 => bq (g_X5_tells F σ p2 x1 a0) fun v4 σ3 => bq (g_X0_held F σ3 v4 x2) fun v6 σ5 => some (v6, σ5)) else none
theorem w_X2_tells {B F : Nat} {d : Nat} {σ : MM} {a0 : Nat} {x1 : Int32} {x2 : Int32} {rf : Int32} {σf : MM} (hd : 132 ≤ d) (h : g_X2_tells F σ a0 x1 x2 = some (rf, σf)) : xMA B yX2_tells cX2_tells 3 (some .int) d 0 0 [rv B a0, .int x1, .int x2] σ (some (.int rf)) σf := by
  refine xMA.of (by decide +kernel) (Nat.le_of_ble_eq_true rfl) (cat_rv (cat_int (cat_int cat_nil))) (fun G C E => ?_)
  unfold g_X2_tells at h
  obtain ⟨-, h⟩ := r_ck h
  refine r_aload_n (pc := 0) (i := 0) C dX2_tells_0 rfl rfl ?_
  refine r_getP (pc := 1) C fd_X2_1 rfl dX2_tells_1 h (fun p1 h => ?_)
  refine r_getP (pc := 4) C fd_X2_69 rfl dX2_tells_4 h (fun p2 h => ?_)
  refine r_iload_n (pc := 7) (i := 1) C dX2_tells_7 rfl rfl ?_
  refine r_aload_n (pc := 8) (i := 0) C dX2_tells_8 rfl rfl ?_
  refine r_callVI (pc := 9) (As := [.int x1, rv B a0]) (st := []) C cs_X2_73_X5_tells h (fun _ _ e => w_X5_tells (Nat.le_refl 131) e) (fun _ _ e => t_X5_tells e) (Nat.le_trans (Nat.le_of_ble_eq_true rfl) hd) (Nat.le_of_ble_eq_true rfl) dX2_tells_9 (fun v4 σ3 h => ?_)
  refine r_iload_n (pc := 12) (i := 2) C dX2_tells_12 rfl rfl ?_
  refine r_callSI (pc := 13) (As := [.int v4, .int x2]) (st := []) C cs_X2_79_X0_held h (fun _ _ e => w_X0_held (Nat.le_refl 1) e) (Nat.le_trans (Nat.le_of_ble_eq_true rfl) hd) (Nat.le_of_ble_eq_true rfl) dX2_tells_13 (fun v6 σ5 h => ?_)
  exact r_iret (pc := 16) C rfl dX2_tells_16 h E
theorem t_X2_tells {F : Nat} {σ : MM} {a0 : Nat} {x1 : Int32} {x2 : Int32} {r : Int32 × MM} (h : g_X2_tells F σ a0 x1 x2 = some r) : mT σ a0 = (1, 10) := by
  unfold g_X2_tells at h
  exact (r_ck h).1
theorem fd_X0_26 : xFg RX0 26 0 22 0 := ⟨_, rfl, rfl, by decide, by decide, in_X0, Or.inl q311⟩
theorem ft_X0_0 : xFt 0 0 (.array .int) true := ⟨_, rfl, by decide +kernel, rfl, rfl⟩
theorem fd_X0_34 : xFg RX0 34 0 22 1 := ⟨_, rfl, rfl, by decide, by decide, in_X0, Or.inl q312⟩
theorem ft_X0_1 : xFt 0 1 (.array .int) true := ⟨_, rfl, by decide +kernel, rfl, rfl⟩
def g_X0_way (F : Nat) (σ : MM) (a0 : Nat) (x1 : Int32) (x2 : Int32) : Option (Int32 × MM) := if mT σ a0 = (0, 22) then ((gP σ a0 0 22 0).bind fun p1 => (aI σ p1 20 x1).bind fun v2 => (gP σ a0 0 22 0).bind fun p3 => (aI σ p3 20 x2).bind fun v4 => (gP σ a0 0 22 1).bind fun p7 => (aI σ p7 20 x1).bind fun v8 => (gP σ a0 0 22 1).bind fun p9 => (aI σ p9 20 x2).bind fun v10 => some ((jmax 1 (((jabs ((v2 - v4))) + (jabs ((v8 - v10)))))), σ)) else none
theorem w_X0_way {B F : Nat} {d : Nat} {σ : MM} {a0 : Nat} {x1 : Int32} {x2 : Int32} {rf : Int32} {σf : MM} (hd : 1 ≤ d) (h : g_X0_way F σ a0 x1 x2 = some (rf, σf)) : xMA B yX0_way cX0_way 3 (some .int) d 0 0 [rv B a0, .int x1, .int x2] σ (some (.int rf)) σf := by
  refine xMA.of (by decide +kernel) (Nat.le_of_ble_eq_true rfl) (cat_rv (cat_int (cat_int cat_nil))) (fun G C E => ?_)
  unfold g_X0_way at h
  obtain ⟨-, h⟩ := r_ck h
  refine r_iconst (pc := 0) (v := 1) C dX0_way_0 (by decide) ?_
  refine r_aload_n (pc := 1) (i := 0) C dX0_way_1 rfl rfl ?_
  refine r_getP (pc := 2) C fd_X0_26 rfl dX0_way_2 h (fun p1 h => ?_)
  refine r_iload_n (pc := 5) (i := 1) C dX0_way_5 rfl rfl ?_
  refine r_iald (pc := 6) C dX0_way_6 h (fun v2 h => ?_)
  refine r_aload_n (pc := 7) (i := 0) C dX0_way_7 rfl rfl ?_
  refine r_getP (pc := 8) C fd_X0_26 rfl dX0_way_8 h (fun p3 h => ?_)
  refine r_iload_n (pc := 11) (i := 2) C dX0_way_11 rfl rfl ?_
  refine r_iald (pc := 12) C dX0_way_12 h (fun v4 h => ?_)
  refine r_isub (pc := 13) C dX0_way_13 ?_
  refine r_mabs (pc := 14) C q912 q913 q126 q914 (Nat.le_trans (Nat.le_of_ble_eq_true rfl) hd) (Nat.le_of_ble_eq_true rfl) (Nat.le_of_ble_eq_true rfl) (Nat.le_of_ble_eq_true rfl) dX0_way_14 ?_
  refine r_aload_n (pc := 17) (i := 0) C dX0_way_17 rfl rfl ?_
  refine r_getP (pc := 18) C fd_X0_34 rfl dX0_way_18 h (fun p7 h => ?_)
  refine r_iload_n (pc := 21) (i := 1) C dX0_way_21 rfl rfl ?_
  refine r_iald (pc := 22) C dX0_way_22 h (fun v8 h => ?_)
  refine r_aload_n (pc := 23) (i := 0) C dX0_way_23 rfl rfl ?_
  refine r_getP (pc := 24) C fd_X0_34 rfl dX0_way_24 h (fun p9 h => ?_)
  refine r_iload_n (pc := 27) (i := 2) C dX0_way_27 rfl rfl ?_
  refine r_iald (pc := 28) C dX0_way_28 h (fun v10 h => ?_)
  refine r_isub (pc := 29) C dX0_way_29 ?_
  refine r_mabs (pc := 30) C q912 q913 q126 q914 (Nat.le_trans (Nat.le_of_ble_eq_true rfl) hd) (Nat.le_of_ble_eq_true rfl) (Nat.le_of_ble_eq_true rfl) (Nat.le_of_ble_eq_true rfl) dX0_way_30 ?_
  refine r_iadd (pc := 33) C dX0_way_33 ?_
  refine r_mmax (pc := 34) C q915 q496 q126 q497 (Nat.le_trans (Nat.le_of_ble_eq_true rfl) hd) (Nat.le_of_ble_eq_true rfl) (Nat.le_of_ble_eq_true rfl) (Nat.le_of_ble_eq_true rfl) dX0_way_34 ?_
  exact r_iret (pc := 37) C rfl dX0_way_37 h E
theorem t_X0_way {F : Nat} {σ : MM} {a0 : Nat} {x1 : Int32} {x2 : Int32} {r : Int32 × MM} (h : g_X0_way F σ a0 x1 x2 = some r) : mT σ a0 = (0, 22) := by
  unfold g_X0_way at h
  exact (r_ck h).1
theorem fd_X3_55 : xFg RX3 55 2 16 10 := ⟨_, rfl, rfl, by decide, by decide, in_X3, Or.inl q236⟩
theorem ft_X3_10 : xFt 2 10 .int false := ⟨_, rfl, by decide +kernel, rfl, rfl⟩
def g_X3_rows (F : Nat) (σ : MM) (a0 : Nat) : Option (Int32 × MM) := if mT σ a0 = (2, 16) then ((gI σ a0 2 16 10).bind fun v1 => some ((jmin 40 v1), σ)) else none
theorem w_X3_rows {B F : Nat} {d : Nat} {σ : MM} {a0 : Nat} {rf : Int32} {σf : MM} (hd : 1 ≤ d) (h : g_X3_rows F σ a0 = some (rf, σf)) : xMA B yX3_rows cX3_rows 1 (some .int) d 0 0 [rv B a0] σ (some (.int rf)) σf := by
  refine xMA.of (by decide +kernel) (Nat.le_of_ble_eq_true rfl) (cat_rv cat_nil) (fun G C E => ?_)
  unfold g_X3_rows at h
  obtain ⟨-, h⟩ := r_ck h
  refine r_bipush (pc := 0) (v := 40) C dX3_rows_0 (by decide) ?_
  refine r_aload_n (pc := 2) (i := 0) C dX3_rows_2 rfl rfl ?_
  refine r_getI (pc := 3) C fd_X3_55 rfl dX3_rows_3 h (fun v1 h => ?_)
  refine r_mmin (pc := 6) C q1024 q499 q126 q500 (Nat.le_trans (Nat.le_of_ble_eq_true rfl) hd) (Nat.le_of_ble_eq_true rfl) (Nat.le_of_ble_eq_true rfl) (Nat.le_of_ble_eq_true rfl) dX3_rows_6 ?_
  exact r_iret (pc := 9) C rfl dX3_rows_9 h E
theorem t_X3_rows {F : Nat} {σ : MM} {a0 : Nat} {r : Int32 × MM} (h : g_X3_rows F σ a0 = some r) : mT σ a0 = (2, 16) := by
  unfold g_X3_rows at h
  exact (r_ck h).1
theorem yd_X3_rows : xYd yX3_rows 0 := ⟨by decide +kernel, by decide +kernel, by decide +kernel⟩
theorem cs_X3_68_X3_rows : xCV RX3 68 yX3_rows cX3_rows 1 (some .int) 2 16 0 := ⟨by decide, by decide, _, rfl, yd_X3_rows, Or.inl ⟨rfl, lw_V q1020 q1021 q1022 q119 q1023⟩⟩
theorem fd_X3_26 : xFg RX3 26 2 16 2 := ⟨_, rfl, rfl, by decide, by decide, in_X3, Or.inl q220⟩
theorem ft_X3_2 : xFt 2 2 (.array .int) true := ⟨_, rfl, by decide +kernel, rfl, rfl⟩
def l_X3_chalked_4 (K : Int32 → MM → Option (Int32 × MM)) (F : Nat) (a0 : Nat) (x1 : Int32) : Nat → Int32 → Int32 → MM → Option (Int32 × MM)
  | 0, _, _, _ => none
  | f + 1, z2, z3, σ => bq (g_X3_rows F σ a0) fun v2 σ1 => if z3 < v2 then ((gP σ1 a0 2 16 2).bind fun p3 => (aI σ1 p3 20 z3).bind fun v4 => jn (fun (w6 : Int32) (σ5 : MM) => l_X3_chalked_4 K F a0 x1 f ((z2 + w6)) ((z3 + 1)) σ5) (fun k7 => if v4 = x1 then (k7 1 σ1) else (k7 0 σ1))) else (K z2 σ1)
def g_X3_chalked (F : Nat) (σ : MM) (a0 : Nat) (x1 : Int32) : Option (Int32 × MM) := if mT σ a0 = (2, 16) then (l_X3_chalked_4 (fun (r2_9 : Int32) (σ8 : MM) => some (r2_9, σ8)) F a0 x1 F 0 0 σ) else none
theorem wl_X3_chalked_4 {B : Nat} {G : XG} {d : Nat} {rf : Int32} {σf : MM} (hd : 2 ≤ d) (C : xC B G yX3_chalked cX3_chalked 4 (some .int) d 0 0) (E : xEnd B G (some (.int rf)) σf 0 0) {K : Int32 → MM → Option (Int32 × MM)} {F : Nat} {a0 : Nat} {x1 : Int32} (hK : ∀ (q2 : Int32) (σ : MM), K q2 σ = some (rf, σf) → xV B G 0 0 σ 36 [(2, .int q2)] []) : ∀ (f : Nat) (z2 : Int32) (z3 : Int32) (σ : MM), l_X3_chalked_4 K F a0 x1 f z2 z3 σ = some (rf, σf) → xV B G 0 0 σ 4 [(0, rv B a0), (1, .int x1), (2, .int z2), (3, .int z3)] [] := by
  intro f
  induction f with
  | zero =>
    intro z2 z3 σ h
    have h : none = some (rf, σf) := h
    cases h
  | succ f ih =>
    intro z2 z3 σ h
    rw [l_X3_chalked_4.eq_2] at h
    refine r_iload_n (pc := 4) (i := 3) C dX3_chalked_4 rfl rfl ?_
    refine r_aload_n (pc := 5) (i := 0) C dX3_chalked_5 rfl rfl ?_
    refine r_callVI (pc := 6) (As := []) (st := [.int z3]) C cs_X3_68_X3_rows h (fun _ _ e => w_X3_rows (Nat.le_refl 1) e) (fun _ _ e => t_X3_rows e) (Nat.le_trans (Nat.le_of_ble_eq_true rfl) hd) (Nat.le_of_ble_eq_true rfl) dX3_chalked_6 (fun v2 σ1 h => ?_)
    refine r_icmpge (pc := 9) (tgt := 36) C dX3_chalked_9 (by decide) h (fun h => ?_) (fun h => ?_)
    · refine r_pick (lv' := [(2, .int z2)]) [2] rfl ?_
      exact hK _ _ h
    · refine r_iload_n (pc := 12) (i := 2) C dX3_chalked_12 rfl rfl ?_
      refine r_aload_n (pc := 13) (i := 0) C dX3_chalked_13 rfl rfl ?_
      refine r_getP (pc := 14) C fd_X3_26 rfl dX3_chalked_14 h (fun p3 h => ?_)
      refine r_iload_n (pc := 17) (i := 3) C dX3_chalked_17 rfl rfl ?_
      refine r_iald (pc := 18) C dX3_chalked_18 h (fun v4 h => ?_)
      refine r_iload_n (pc := 19) (i := 1) C dX3_chalked_19 rfl rfl ?_
      refine r_jn (fun k9 => ∀ (w6 : Int32) (σ5 : MM), k9 w6 σ5 = some (rf, σf) → xV B G 0 0 σ5 28 [(0, rv B a0), (1, .int x1), (3, .int z3)] [.int w6, .int z2]) h (fun w6 σ5 h => ?_) (fun k7 hk7 h => ?_)
      · refine r_iadd (pc := 28) C dX3_chalked_28 ?_
        refine r_istore_n (pc := 29) (i := 2) C dX3_chalked_29 rfl (by decide) ?_
        refine r_iinc (pc := 30) (i := 3) (v := (z3 + 1)) C dX3_chalked_30 rfl rfl (by decide) ?_
        refine r_goto (pc := 33) (tgt := 4) C dX3_chalked_33 (by decide) ?_
        refine r_pick (lv' := [(0, rv B a0), (1, .int x1), (2, .int (z2 + w6)), (3, .int (z3 + 1))]) [0, 1, 2, 3] rfl ?_
        exact ih _ _ _ h
      · refine r_icmpne (pc := 20) (tgt := 27) C dX3_chalked_20 (by decide) h (fun h => ?_) (fun h => ?_)
        · refine r_iconst (pc := 27) (v := 0) C dX3_chalked_27 (by decide) ?_
          refine r_pick (lv' := [(0, rv B a0), (1, .int x1), (3, .int z3)]) [0, 1, 3] rfl ?_
          exact hk7 _ _ h
        · refine r_iconst (pc := 23) (v := 1) C dX3_chalked_23 (by decide) ?_
          refine r_goto (pc := 24) (tgt := 28) C dX3_chalked_24 (by decide) ?_
          refine r_pick (lv' := [(0, rv B a0), (1, .int x1), (3, .int z3)]) [0, 1, 3] rfl ?_
          exact hk7 _ _ h
theorem w_X3_chalked {B F : Nat} {d : Nat} {σ : MM} {a0 : Nat} {x1 : Int32} {rf : Int32} {σf : MM} (hd : 2 ≤ d) (h : g_X3_chalked F σ a0 x1 = some (rf, σf)) : xMA B yX3_chalked cX3_chalked 4 (some .int) d 0 0 [rv B a0, .int x1] σ (some (.int rf)) σf := by
  refine xMA.of (by decide +kernel) (Nat.le_of_ble_eq_true rfl) (cat_rv (cat_int cat_nil)) (fun G C E => ?_)
  unfold g_X3_chalked at h
  obtain ⟨-, h⟩ := r_ck h
  refine r_iconst (pc := 0) (v := 0) C dX3_chalked_0 (by decide) ?_
  refine r_istore_n (pc := 1) (i := 2) C dX3_chalked_1 rfl (by decide) ?_
  refine r_iconst (pc := 2) (v := 0) C dX3_chalked_2 (by decide) ?_
  refine r_istore_n (pc := 3) (i := 3) C dX3_chalked_3 rfl (by decide) ?_
  refine r_pick (lv' := [(0, rv B a0), (1, .int x1), (2, .int 0), (3, .int 0)]) [0, 1, 2, 3] rfl ?_
  refine wl_X3_chalked_4 hd C E (fun r2_9 σ8 h => ?_) _ _ _ _ h
  refine r_iload_n (pc := 36) (i := 2) C dX3_chalked_36 rfl rfl ?_
  exact r_iret (pc := 37) C rfl dX3_chalked_37 h E
theorem t_X3_chalked {F : Nat} {σ : MM} {a0 : Nat} {x1 : Int32} {r : Int32 × MM} (h : g_X3_chalked F σ a0 x1 = some r) : mT σ a0 = (2, 16) := by
  unfold g_X3_chalked at h
  exact (r_ck h).1
theorem fd_X2_38 : xFg RX2 38 2 16 7 := ⟨_, rfl, rfl, by decide, by decide, in_X3, Or.inr ⟨_, in_nest q229 rfl⟩⟩
theorem ft_X3_7 : xFt 2 7 .int false := ⟨_, rfl, by decide +kernel, rfl, rfl⟩
theorem fd_X2_41 : xFg RX2 41 2 16 8 := ⟨_, rfl, rfl, by decide, by decide, in_X3, Or.inr ⟨_, in_nest q232 rfl⟩⟩
theorem ft_X3_8 : xFt 2 8 .int false := ⟨_, rfl, by decide +kernel, rfl, rfl⟩
theorem yd_X2_at : xYd yX2_at 2 := ⟨by decide +kernel, by decide +kernel, by decide +kernel⟩
theorem cs_X2_42_X2_at : xCV RX2 42 yX2_at cX2_at 3 (some (.object "OneCoin$Moment")) 1 10 2 := ⟨by decide, by decide, _, rfl, yd_X2_at, Or.inl ⟨rfl, lw_V q1013 q950 q951 q118 q952⟩⟩
theorem fd_X2_46 : xFg RX2 46 2 16 0 := ⟨_, rfl, rfl, by decide, by decide, in_X3, Or.inr ⟨_, in_nest q216 rfl⟩⟩
theorem ft_X3_0 : xFt 2 0 (.object "OneCoin$Debts") true := ⟨_, rfl, by decide +kernel, rfl, rfl⟩
theorem fd_X2_50 : xFg RX2 50 3 1 0 := ⟨_, rfl, rfl, by decide, by decide, in_X4, Or.inr ⟨_, in_nest q208 rfl⟩⟩
theorem cs_X2_56_X4_owes : xCV RX2 56 yX4_owes cX4_owes 4 (some .int) 3 1 1 := ⟨by decide, by decide, _, rfl, yd_X4_owes, Or.inl ⟨rfl, lw_V q1014 q804 q805 q120 q806⟩⟩
theorem yd_X0_way : xYd yX0_way 2 := ⟨by decide +kernel, by decide +kernel, by decide +kernel⟩
theorem cs_X2_60_X0_way : xCV RX2 60 yX0_way cX0_way 3 (some .int) 0 22 2 := ⟨by decide, by decide, _, rfl, yd_X0_way, Or.inr ⟨lw_meth q911, q116, _, in_nest q1015 rfl, q910, qs23⟩⟩
theorem yd_X3_chalked : xYd yX3_chalked 1 := ⟨by decide +kernel, by decide +kernel, by decide +kernel⟩
theorem cs_X2_66_X3_chalked : xCV RX2 66 yX3_chalked cX3_chalked 4 (some .int) 2 16 1 := ⟨by decide, by decide, _, rfl, yd_X3_chalked, Or.inl ⟨rfl, lw_V q1016 q1017 q1018 q119 q1019⟩⟩
def g_X2_of (F : Nat) (σ : MM) (a0 : Nat) (a1 : Nat) (x2 : Int32) (x3 : Int32) : Option (Nat × MM) := if mT σ a0 = (1, 10) then ((gI σ a1 2 16 7).bind fun v1 => (gI σ a1 2 16 8).bind fun v2 => bq (g_X2_at F σ a0 v1 v2) fun p4 σ3 => (pI σ3 a0 1 10 1 x2).bind fun σ5 => (pI σ5 a0 1 10 2 x3).bind fun σ6 => (gP σ6 a1 2 16 0).bind fun p7 => (gP σ6 p7 3 1 0).bind fun p8 => (aP σ6 p8 22 x2).bind fun p9 => (aI σ6 p9 20 x3).bind fun v10 => (pI σ6 a0 1 10 3 v10).bind fun σ11 => (gP σ11 a1 2 16 0).bind fun p12 => bq (g_X4_owes F σ11 p12 x2) fun v14 σ13 => (pI σ13 a0 1 10 4 v14).bind fun σ15 => (gP σ15 a0 1 10 9).bind fun p16 => bq (g_X0_way F σ15 p16 x2 x3) fun v18 σ17 => (pI σ17 a0 1 10 5 v18).bind fun σ19 => bq (g_X3_chalked F σ19 a1 x3) fun v21 σ20 => (pI σ20 a0 1 10 6 v21).bind fun σ22 => some (a0, σ22)) else none
theorem w_X2_of {B F : Nat} {d : Nat} {σ : MM} {a0 : Nat} {a1 : Nat} {x2 : Int32} {x3 : Int32} {rf : Nat} {σf : MM} (hd : 3 ≤ d) (h : g_X2_of F σ a0 a1 x2 x3 = some (rf, σf)) : xMA B yX2_of cX2_of 4 (some (.object "OneCoin$Moment")) d 0 0 [rv B a0, rv B a1, .int x2, .int x3] σ (some (rv B rf)) σf := by
  refine xMA.of (by decide +kernel) (Nat.le_of_ble_eq_true rfl) (cat_rv (cat_rv (cat_int (cat_int cat_nil)))) (fun G C E => ?_)
  unfold g_X2_of at h
  obtain ⟨-, h⟩ := r_ck h
  refine r_aload_n (pc := 0) (i := 0) C dX2_of_0 rfl rfl ?_
  refine r_aload_n (pc := 1) (i := 1) C dX2_of_1 rfl rfl ?_
  refine r_getI (pc := 2) C fd_X2_38 rfl dX2_of_2 h (fun v1 h => ?_)
  refine r_aload_n (pc := 5) (i := 1) C dX2_of_5 rfl rfl ?_
  refine r_getI (pc := 6) C fd_X2_41 rfl dX2_of_6 h (fun v2 h => ?_)
  refine r_callVP (pc := 9) (As := [.int v1, .int v2]) (st := []) C cs_X2_42_X2_at h (fun _ _ e => w_X2_at (Nat.le_refl 0) e) (fun _ _ e => t_X2_at e) (Nat.le_trans (Nat.le_of_ble_eq_true rfl) hd) (Nat.le_of_ble_eq_true rfl) dX2_of_9 (fun p4 σ3 h => ?_)
  refine r_pop (pc := 12) C dX2_of_12 ?_
  refine r_aload_n (pc := 13) (i := 0) C dX2_of_13 rfl rfl ?_
  refine r_iload_n (pc := 14) (i := 2) C dX2_of_14 rfl rfl ?_
  refine r_putI (pc := 15) C fd_X2_13 ft_X2_1 dX2_of_15 h (fun σ5 h => ?_)
  refine r_aload_n (pc := 18) (i := 0) C dX2_of_18 rfl rfl ?_
  refine r_iload_n (pc := 19) (i := 3) C dX2_of_19 rfl rfl ?_
  refine r_putI (pc := 20) C fd_X2_17 ft_X2_2 dX2_of_20 h (fun σ6 h => ?_)
  refine r_aload_n (pc := 23) (i := 0) C dX2_of_23 rfl rfl ?_
  refine r_aload_n (pc := 24) (i := 1) C dX2_of_24 rfl rfl ?_
  refine r_getP (pc := 25) C fd_X2_46 rfl dX2_of_25 h (fun p7 h => ?_)
  refine r_getP (pc := 28) C fd_X2_50 rfl dX2_of_28 h (fun p8 h => ?_)
  refine r_iload_n (pc := 31) (i := 2) C dX2_of_31 rfl rfl ?_
  refine r_aald (pc := 32) 0 (by decide) C dX2_of_32 h (fun p9 h => ?_)
  refine r_iload_n (pc := 33) (i := 3) C dX2_of_33 rfl rfl ?_
  refine r_iald (pc := 34) C dX2_of_34 h (fun v10 h => ?_)
  refine r_putI (pc := 35) C fd_X2_20 ft_X2_3 dX2_of_35 h (fun σ11 h => ?_)
  refine r_aload_n (pc := 38) (i := 0) C dX2_of_38 rfl rfl ?_
  refine r_aload_n (pc := 39) (i := 1) C dX2_of_39 rfl rfl ?_
  refine r_getP (pc := 40) C fd_X2_46 rfl dX2_of_40 h (fun p12 h => ?_)
  refine r_iload_n (pc := 43) (i := 2) C dX2_of_43 rfl rfl ?_
  refine r_callVI (pc := 44) (As := [.int x2]) (st := [rv B a0]) C cs_X2_56_X4_owes h (fun _ _ e => w_X4_owes (Nat.le_refl 0) e) (fun _ _ e => t_X4_owes e) (Nat.le_trans (Nat.le_of_ble_eq_true rfl) hd) (Nat.le_of_ble_eq_true rfl) dX2_of_44 (fun v14 σ13 h => ?_)
  refine r_putI (pc := 47) C fd_X2_23 ft_X2_4 dX2_of_47 h (fun σ15 h => ?_)
  refine r_aload_n (pc := 50) (i := 0) C dX2_of_50 rfl rfl ?_
  refine r_aload_n (pc := 51) (i := 0) C dX2_of_51 rfl rfl ?_
  refine r_getP (pc := 52) C fd_X2_1 rfl dX2_of_52 h (fun p16 h => ?_)
  refine r_iload_n (pc := 55) (i := 2) C dX2_of_55 rfl rfl ?_
  refine r_iload_n (pc := 56) (i := 3) C dX2_of_56 rfl rfl ?_
  refine r_callVI (pc := 57) (As := [.int x2, .int x3]) (st := [rv B a0]) C cs_X2_60_X0_way h (fun _ _ e => w_X0_way (Nat.le_refl 1) e) (fun _ _ e => t_X0_way e) (Nat.le_trans (Nat.le_of_ble_eq_true rfl) hd) (Nat.le_of_ble_eq_true rfl) dX2_of_57 (fun v18 σ17 h => ?_)
  refine r_putI (pc := 60) C fd_X2_26 ft_X2_5 dX2_of_60 h (fun σ19 h => ?_)
  refine r_aload_n (pc := 63) (i := 0) C dX2_of_63 rfl rfl ?_
  refine r_aload_n (pc := 64) (i := 1) C dX2_of_64 rfl rfl ?_
  refine r_iload_n (pc := 65) (i := 3) C dX2_of_65 rfl rfl ?_
  refine r_callVI (pc := 66) (As := [.int x3]) (st := [rv B a0]) C cs_X2_66_X3_chalked h (fun _ _ e => w_X3_chalked (Nat.le_refl 2) e) (fun _ _ e => t_X3_chalked e) (Nat.le_trans (Nat.le_of_ble_eq_true rfl) hd) (Nat.le_of_ble_eq_true rfl) dX2_of_66 (fun v21 σ20 h => ?_)
  refine r_putI (pc := 69) C fd_X2_29 ft_X2_6 dX2_of_69 h (fun σ22 h => ?_)
  refine r_aload_n (pc := 72) (i := 0) C dX2_of_72 rfl rfl ?_
  exact r_aret (pc := 73) C rfl dX2_of_73 h E
theorem t_X2_of {F : Nat} {σ : MM} {a0 : Nat} {a1 : Nat} {x2 : Int32} {x3 : Int32} {r : Nat × MM} (h : g_X2_of F σ a0 a1 x2 x3 = some r) : mT σ a0 = (1, 10) := by
  unfold g_X2_of at h
  exact (r_ck h).1
theorem yd_X5_says : xYd yX5_says 2 := ⟨by decide +kernel, by decide +kernel, by decide +kernel⟩
theorem cs_X2_82_X5_says : xCV RX2 82 yX5_says cX5_says 4 (some .boolean) 4 4 2 := ⟨by decide, by decide, _, rfl, yd_X5_says, Or.inl ⟨rfl, lw_V q1048 q1049 q1050 q121 q1051⟩⟩
def g_X2_willNot (F : Nat) (σ : MM) (a0 : Nat) : Option (Int32 × MM) := if mT σ a0 = (1, 10) then ((gP σ a0 1 10 9).bind fun p1 => (gP σ p1 0 22 8).bind fun p2 => bq (g_X5_says F σ p2 115 a0) fun v4 σ3 => (rz v4).bind fun u => some (u, σ3)) else none
theorem w_X2_willNot {B F : Nat} {d : Nat} {σ : MM} {a0 : Nat} {rf : Int32} {σf : MM} (hd : 132 ≤ d) (h : g_X2_willNot F σ a0 = some (rf, σf)) : xMA B yX2_willNot cX2_willNot 1 (some .boolean) d 0 0 [rv B a0] σ (some (.int rf)) σf := by
  refine xMA.of (by decide +kernel) (Nat.le_of_ble_eq_true rfl) (cat_rv cat_nil) (fun G C E => ?_)
  unfold g_X2_willNot at h
  obtain ⟨-, h⟩ := r_ck h
  refine r_aload_n (pc := 0) (i := 0) C dX2_willNot_0 rfl rfl ?_
  refine r_getP (pc := 1) C fd_X2_1 rfl dX2_willNot_1 h (fun p1 h => ?_)
  refine r_getP (pc := 4) C fd_X2_69 rfl dX2_willNot_4 h (fun p2 h => ?_)
  refine r_bipush (pc := 7) (v := 115) C dX2_willNot_7 (by decide) ?_
  refine r_aload_n (pc := 9) (i := 0) C dX2_willNot_9 rfl rfl ?_
  refine r_callVI (pc := 10) (As := [.int 115, rv B a0]) (st := []) C cs_X2_82_X5_says h (fun _ _ e => w_X5_says (Nat.le_refl 131) e) (fun _ _ e => t_X5_says e) (Nat.le_trans (Nat.le_of_ble_eq_true rfl) hd) (Nat.le_of_ble_eq_true rfl) dX2_willNot_10 (fun v4 σ3 h => ?_)
  exact r_zret (pc := 13) C rfl dX2_willNot_13 h E
theorem t_X2_willNot {F : Nat} {σ : MM} {a0 : Nat} {r : Int32 × MM} (h : g_X2_willNot F σ a0 = some r) : mT σ a0 = (1, 10) := by
  unfold g_X2_willNot at h
  exact (r_ck h).1
theorem fd_X3_18 : xFg RX3 18 2 16 0 := ⟨_, rfl, rfl, by decide, by decide, in_X3, Or.inl q215⟩
theorem yd_X4_takes : xYd yX4_takes 1 := ⟨by decide +kernel, by decide +kernel, by decide +kernel⟩
theorem cs_X3_36_X4_takes : xCV RX3 36 yX4_takes cX4_takes 4 (some (.object "OneCoin$Debts")) 3 1 1 := ⟨by decide, by decide, _, rfl, yd_X4_takes, Or.inl ⟨rfl, lw_V q894 q815 q816 q120 q817⟩⟩
theorem fd_X3_22 : xFg RX3 22 2 16 1 := ⟨_, rfl, rfl, by decide, by decide, in_X3, Or.inl q218⟩
theorem ft_X3_1 : xFt 2 1 (.array .int) true := ⟨_, rfl, by decide +kernel, rfl, rfl⟩
theorem fd_X3_29 : xFg RX3 29 2 16 3 := ⟨_, rfl, rfl, by decide, by decide, in_X3, Or.inl q221⟩
theorem ft_X3_3 : xFt 2 3 .int false := ⟨_, rfl, by decide +kernel, rfl, rfl⟩
theorem fd_X3_40 : xFg RX3 40 2 16 4 := ⟨_, rfl, rfl, by decide, by decide, in_X3, Or.inl q223⟩
theorem ft_X3_4 : xFt 2 4 .int false := ⟨_, rfl, by decide +kernel, rfl, rfl⟩
theorem fd_X3_33 : xFg RX3 33 2 16 5 := ⟨_, rfl, rfl, by decide, by decide, in_X3, Or.inl q224⟩
theorem ft_X3_5 : xFt 2 5 .int false := ⟨_, rfl, by decide +kernel, rfl, rfl⟩
theorem fd_X3_43 : xFg RX3 43 2 16 6 := ⟨_, rfl, rfl, by decide, by decide, in_X3, Or.inl q226⟩
theorem ft_X3_6 : xFt 2 6 .int false := ⟨_, rfl, by decide +kernel, rfl, rfl⟩
theorem fd_X3_46 : xFg RX3 46 2 16 7 := ⟨_, rfl, rfl, by decide, by decide, in_X3, Or.inl q228⟩
theorem fd_X3_49 : xFg RX3 49 2 16 8 := ⟨_, rfl, rfl, by decide, by decide, in_X3, Or.inl q231⟩
theorem fd_X3_52 : xFg RX3 52 2 16 9 := ⟨_, rfl, rfl, by decide, by decide, in_X3, Or.inl q234⟩
theorem ft_X3_9 : xFt 2 9 .int false := ⟨_, rfl, by decide +kernel, rfl, rfl⟩
theorem fd_X3_58 : xFg RX3 58 2 16 14 := ⟨_, rfl, rfl, by decide, by decide, in_X3, Or.inl q243⟩
theorem ft_X3_14 : xFt 2 14 .boolean false := ⟨_, rfl, by decide +kernel, rfl, rfl⟩
def l_X3_takes_14 (K : MM → Option (Nat × MM)) (F : Nat) (a0 : Nat) (a1 : Nat) : Nat → Int32 → MM → Option (Nat × MM)
  | 0, _, _ => none
  | f + 1, z2, σ => if z2 < 10 then ((gP σ a0 2 16 1).bind fun p5 => (gP σ a1 2 16 1).bind fun p6 => (aI σ p6 20 z2).bind fun v7 => (sI σ p5 z2 v7).bind fun σ8 => l_X3_takes_14 K F a0 a1 f ((z2 + 1)) σ8) else (K σ)
def l_X3_takes_40 (K : MM → Option (Nat × MM)) (F : Nat) (a0 : Nat) (a1 : Nat) : Nat → Int32 → MM → Option (Nat × MM)
  | 0, _, _ => none
  | f + 1, z2, σ => if z2 < 40 then ((gP σ a0 2 16 2).bind fun p10 => (gP σ a1 2 16 2).bind fun p11 => (aI σ p11 20 z2).bind fun v12 => (sI σ p10 z2 v12).bind fun σ13 => l_X3_takes_40 K F a0 a1 f ((z2 + 1)) σ13) else (K σ)
def g_X3_takes (F : Nat) (σ : MM) (a0 : Nat) (a1 : Nat) : Option (Nat × MM) := if mT σ a0 = (2, 16) then ((gP σ a0 2 16 0).bind fun p1 => (gP σ a1 2 16 0).bind fun p2 => bq (g_X4_takes F σ p1 p2) fun p4 σ3 => l_X3_takes_14 (fun (σ9 : MM) => l_X3_takes_40 (fun (σ14 : MM) => (gI σ14 a1 2 16 3).bind fun v15 => (pI σ14 a0 2 16 3 v15).bind fun σ16 => (gI σ16 a1 2 16 4).bind fun v17 => (pI σ16 a0 2 16 4 v17).bind fun σ18 => (gI σ18 a1 2 16 5).bind fun v19 => (pI σ18 a0 2 16 5 v19).bind fun σ20 => (gI σ20 a1 2 16 6).bind fun v21 => (pI σ20 a0 2 16 6 v21).bind fun σ22 => (gI σ22 a1 2 16 7).bind fun v23 => (pI σ22 a0 2 16 7 v23).bind fun σ24 => (gI σ24 a1 2 16 8).bind fun v25 => (pI σ24 a0 2 16 8 v25).bind fun σ26 => (gI σ26 a1 2 16 9).bind fun v27 => (pI σ26 a0 2 16 9 v27).bind fun σ28 => (gI σ28 a1 2 16 10).bind fun v29 => (pI σ28 a0 2 16 10 v29).bind fun σ30 => (gI σ30 a1 2 16 14).bind fun v31 => (pZ σ30 a0 2 16 14 v31).bind fun σ32 => some (a0, σ32)) F a0 a1 F 0 σ9) F a0 a1 F 0 σ3) else none
theorem wl_X3_takes_14 {B : Nat} {G : XG} {d : Nat} {rf : Nat} {σf : MM} (hd : 1 ≤ d) (C : xC B G yX3_takes cX3_takes 3 (some (.object "OneCoin$Duchy")) d 0 0) (E : xEnd B G (some (rv B rf)) σf 0 0) {K : MM → Option (Nat × MM)} {F : Nat} {a0 : Nat} {a1 : Nat} (hK : ∀ (σ : MM), K σ = some (rf, σf) → xV B G 0 0 σ 38 [(0, rv B a0), (1, rv B a1)] []) : ∀ (f : Nat) (z2 : Int32) (σ : MM), l_X3_takes_14 K F a0 a1 f z2 σ = some (rf, σf) → xV B G 0 0 σ 14 [(0, rv B a0), (1, rv B a1), (2, .int z2)] [] := by
  intro f
  induction f with
  | zero =>
    intro z2 σ h
    have h : none = some (rf, σf) := h
    cases h
  | succ f ih =>
    intro z2 σ h
    rw [l_X3_takes_14.eq_2] at h
    refine r_iload_n (pc := 14) (i := 2) C dX3_takes_14 rfl rfl ?_
    refine r_bipush (pc := 15) (v := 10) C dX3_takes_15 (by decide) ?_
    refine r_icmpge (pc := 17) (tgt := 38) C dX3_takes_17 (by decide) h (fun h => ?_) (fun h => ?_)
    · refine r_pick (lv' := [(0, rv B a0), (1, rv B a1)]) [0, 1] rfl ?_
      exact hK _ h
    · refine r_aload_n (pc := 20) (i := 0) C dX3_takes_20 rfl rfl ?_
      refine r_getP (pc := 21) C fd_X3_22 rfl dX3_takes_21 h (fun p5 h => ?_)
      refine r_iload_n (pc := 24) (i := 2) C dX3_takes_24 rfl rfl ?_
      refine r_aload_n (pc := 25) (i := 1) C dX3_takes_25 rfl rfl ?_
      refine r_getP (pc := 26) C fd_X3_22 rfl dX3_takes_26 h (fun p6 h => ?_)
      refine r_iload_n (pc := 29) (i := 2) C dX3_takes_29 rfl rfl ?_
      refine r_iald (pc := 30) C dX3_takes_30 h (fun v7 h => ?_)
      refine r_iast (pc := 31) C dX3_takes_31 h (fun σ8 h => ?_)
      refine r_iinc (pc := 32) (i := 2) (v := (z2 + 1)) C dX3_takes_32 rfl rfl (by decide) ?_
      refine r_goto (pc := 35) (tgt := 14) C dX3_takes_35 (by decide) ?_
      refine r_pick (lv' := [(0, rv B a0), (1, rv B a1), (2, .int (z2 + 1))]) [0, 1, 2] rfl ?_
      exact ih _ _ h
theorem wl_X3_takes_40 {B : Nat} {G : XG} {d : Nat} {rf : Nat} {σf : MM} (hd : 1 ≤ d) (C : xC B G yX3_takes cX3_takes 3 (some (.object "OneCoin$Duchy")) d 0 0) (E : xEnd B G (some (rv B rf)) σf 0 0) {K : MM → Option (Nat × MM)} {F : Nat} {a0 : Nat} {a1 : Nat} (hK : ∀ (σ : MM), K σ = some (rf, σf) → xV B G 0 0 σ 64 [(0, rv B a0), (1, rv B a1)] []) : ∀ (f : Nat) (z2 : Int32) (σ : MM), l_X3_takes_40 K F a0 a1 f z2 σ = some (rf, σf) → xV B G 0 0 σ 40 [(0, rv B a0), (1, rv B a1), (2, .int z2)] [] := by
  intro f
  induction f with
  | zero =>
    intro z2 σ h
    have h : none = some (rf, σf) := h
    cases h
  | succ f ih =>
    intro z2 σ h
    rw [l_X3_takes_40.eq_2] at h
    refine r_iload_n (pc := 40) (i := 2) C dX3_takes_40 rfl rfl ?_
    refine r_bipush (pc := 41) (v := 40) C dX3_takes_41 (by decide) ?_
    refine r_icmpge (pc := 43) (tgt := 64) C dX3_takes_43 (by decide) h (fun h => ?_) (fun h => ?_)
    · refine r_pick (lv' := [(0, rv B a0), (1, rv B a1)]) [0, 1] rfl ?_
      exact hK _ h
    · refine r_aload_n (pc := 46) (i := 0) C dX3_takes_46 rfl rfl ?_
      refine r_getP (pc := 47) C fd_X3_26 rfl dX3_takes_47 h (fun p10 h => ?_)
      refine r_iload_n (pc := 50) (i := 2) C dX3_takes_50 rfl rfl ?_
      refine r_aload_n (pc := 51) (i := 1) C dX3_takes_51 rfl rfl ?_
      refine r_getP (pc := 52) C fd_X3_26 rfl dX3_takes_52 h (fun p11 h => ?_)
      refine r_iload_n (pc := 55) (i := 2) C dX3_takes_55 rfl rfl ?_
      refine r_iald (pc := 56) C dX3_takes_56 h (fun v12 h => ?_)
      refine r_iast (pc := 57) C dX3_takes_57 h (fun σ13 h => ?_)
      refine r_iinc (pc := 58) (i := 2) (v := (z2 + 1)) C dX3_takes_58 rfl rfl (by decide) ?_
      refine r_goto (pc := 61) (tgt := 40) C dX3_takes_61 (by decide) ?_
      refine r_pick (lv' := [(0, rv B a0), (1, rv B a1), (2, .int (z2 + 1))]) [0, 1, 2] rfl ?_
      exact ih _ _ h
theorem w_X3_takes {B F : Nat} {d : Nat} {σ : MM} {a0 : Nat} {a1 : Nat} {rf : Nat} {σf : MM} (hd : 1 ≤ d) (h : g_X3_takes F σ a0 a1 = some (rf, σf)) : xMA B yX3_takes cX3_takes 3 (some (.object "OneCoin$Duchy")) d 0 0 [rv B a0, rv B a1] σ (some (rv B rf)) σf := by
  refine xMA.of (by decide +kernel) (Nat.le_of_ble_eq_true rfl) (cat_rv (cat_rv cat_nil)) (fun G C E => ?_)
  unfold g_X3_takes at h
  obtain ⟨-, h⟩ := r_ck h
  refine r_aload_n (pc := 0) (i := 0) C dX3_takes_0 rfl rfl ?_
  refine r_getP (pc := 1) C fd_X3_18 rfl dX3_takes_1 h (fun p1 h => ?_)
  refine r_aload_n (pc := 4) (i := 1) C dX3_takes_4 rfl rfl ?_
  refine r_getP (pc := 5) C fd_X3_18 rfl dX3_takes_5 h (fun p2 h => ?_)
  refine r_callVP (pc := 8) (As := [rv B p2]) (st := []) C cs_X3_36_X4_takes h (fun _ _ e => w_X4_takes (Nat.le_refl 0) e) (fun _ _ e => t_X4_takes e) (Nat.le_trans (Nat.le_of_ble_eq_true rfl) hd) (Nat.le_of_ble_eq_true rfl) dX3_takes_8 (fun p4 σ3 h => ?_)
  refine r_pop (pc := 11) C dX3_takes_11 ?_
  refine r_iconst (pc := 12) (v := 0) C dX3_takes_12 (by decide) ?_
  refine r_istore_n (pc := 13) (i := 2) C dX3_takes_13 rfl (by decide) ?_
  refine r_pick (lv' := [(0, rv B a0), (1, rv B a1), (2, .int 0)]) [0, 1, 2] rfl ?_
  refine wl_X3_takes_14 hd C E (fun  σ9 h => ?_) _ _ _ h
  refine r_iconst (pc := 38) (v := 0) C dX3_takes_38 (by decide) ?_
  refine r_istore_n (pc := 39) (i := 2) C dX3_takes_39 rfl (by decide) ?_
  refine r_pick (lv' := [(0, rv B a0), (1, rv B a1), (2, .int 0)]) [0, 1, 2] rfl ?_
  refine wl_X3_takes_40 hd C E (fun  σ14 h => ?_) _ _ _ h
  refine r_aload_n (pc := 64) (i := 0) C dX3_takes_64 rfl rfl ?_
  refine r_aload_n (pc := 65) (i := 1) C dX3_takes_65 rfl rfl ?_
  refine r_getI (pc := 66) C fd_X3_29 rfl dX3_takes_66 h (fun v15 h => ?_)
  refine r_putI (pc := 69) C fd_X3_29 ft_X3_3 dX3_takes_69 h (fun σ16 h => ?_)
  refine r_aload_n (pc := 72) (i := 0) C dX3_takes_72 rfl rfl ?_
  refine r_aload_n (pc := 73) (i := 1) C dX3_takes_73 rfl rfl ?_
  refine r_getI (pc := 74) C fd_X3_40 rfl dX3_takes_74 h (fun v17 h => ?_)
  refine r_putI (pc := 77) C fd_X3_40 ft_X3_4 dX3_takes_77 h (fun σ18 h => ?_)
  refine r_aload_n (pc := 80) (i := 0) C dX3_takes_80 rfl rfl ?_
  refine r_aload_n (pc := 81) (i := 1) C dX3_takes_81 rfl rfl ?_
  refine r_getI (pc := 82) C fd_X3_33 rfl dX3_takes_82 h (fun v19 h => ?_)
  refine r_putI (pc := 85) C fd_X3_33 ft_X3_5 dX3_takes_85 h (fun σ20 h => ?_)
  refine r_aload_n (pc := 88) (i := 0) C dX3_takes_88 rfl rfl ?_
  refine r_aload_n (pc := 89) (i := 1) C dX3_takes_89 rfl rfl ?_
  refine r_getI (pc := 90) C fd_X3_43 rfl dX3_takes_90 h (fun v21 h => ?_)
  refine r_putI (pc := 93) C fd_X3_43 ft_X3_6 dX3_takes_93 h (fun σ22 h => ?_)
  refine r_aload_n (pc := 96) (i := 0) C dX3_takes_96 rfl rfl ?_
  refine r_aload_n (pc := 97) (i := 1) C dX3_takes_97 rfl rfl ?_
  refine r_getI (pc := 98) C fd_X3_46 rfl dX3_takes_98 h (fun v23 h => ?_)
  refine r_putI (pc := 101) C fd_X3_46 ft_X3_7 dX3_takes_101 h (fun σ24 h => ?_)
  refine r_aload_n (pc := 104) (i := 0) C dX3_takes_104 rfl rfl ?_
  refine r_aload_n (pc := 105) (i := 1) C dX3_takes_105 rfl rfl ?_
  refine r_getI (pc := 106) C fd_X3_49 rfl dX3_takes_106 h (fun v25 h => ?_)
  refine r_putI (pc := 109) C fd_X3_49 ft_X3_8 dX3_takes_109 h (fun σ26 h => ?_)
  refine r_aload_n (pc := 112) (i := 0) C dX3_takes_112 rfl rfl ?_
  refine r_aload_n (pc := 113) (i := 1) C dX3_takes_113 rfl rfl ?_
  refine r_getI (pc := 114) C fd_X3_52 rfl dX3_takes_114 h (fun v27 h => ?_)
  refine r_putI (pc := 117) C fd_X3_52 ft_X3_9 dX3_takes_117 h (fun σ28 h => ?_)
  refine r_aload_n (pc := 120) (i := 0) C dX3_takes_120 rfl rfl ?_
  refine r_aload_n (pc := 121) (i := 1) C dX3_takes_121 rfl rfl ?_
  refine r_getI (pc := 122) C fd_X3_55 rfl dX3_takes_122 h (fun v29 h => ?_)
  refine r_putI (pc := 125) C fd_X3_55 ft_X3_10 dX3_takes_125 h (fun σ30 h => ?_)
  refine r_aload_n (pc := 128) (i := 0) C dX3_takes_128 rfl rfl ?_
  refine r_aload_n (pc := 129) (i := 1) C dX3_takes_129 rfl rfl ?_
  refine r_getI (pc := 130) C fd_X3_58 rfl dX3_takes_130 h (fun v31 h => ?_)
  refine r_putZ (pc := 133) C fd_X3_58 ft_X3_14 dX3_takes_133 h (fun σ32 h => ?_)
  refine r_aload_n (pc := 136) (i := 0) C dX3_takes_136 rfl rfl ?_
  exact r_aret (pc := 137) C rfl dX3_takes_137 h E
theorem t_X3_takes {F : Nat} {σ : MM} {a0 : Nat} {a1 : Nat} {r : Nat × MM} (h : g_X3_takes F σ a0 a1 = some r) : mT σ a0 = (2, 16) := by
  unfold g_X3_takes at h
  exact (r_ck h).1
def g_X0_in (F : Nat) (σ : MM) (x0 : Int32) (x1 : Int32) : Option (Int32 × MM) := if x0 < 0 then (some (0, σ)) else (if x0 < x1 then (some (1, σ)) else (some (0, σ)))
theorem w_X0_in {B F : Nat} {d : Nat} {σ : MM} {x0 : Int32} {x1 : Int32} {rf : Int32} {σf : MM} (hd : 0 ≤ d) (h : g_X0_in F σ x0 x1 = some (rf, σf)) : xMA B yX0_in cX0_in 2 (some .boolean) d 0 0 [.int x0, .int x1] σ (some (.int rf)) σf := by
  refine xMA.of (by decide +kernel) (Nat.le_of_ble_eq_true rfl) (cat_int (cat_int cat_nil)) (fun G C E => ?_)
  unfold g_X0_in at h
  refine r_iload_n (pc := 0) (i := 0) C dX0_in_0 rfl rfl ?_
  refine r_iflt (pc := 1) (tgt := 13) C dX0_in_1 (by decide) h (fun h => ?_) (fun h => ?_)
  · refine r_iconst (pc := 13) (v := 0) C dX0_in_13 (by decide) ?_
    exact r_zretL (pc := 14) C rfl dX0_in_14 (Or.inl rfl) h E
  · refine r_iload_n (pc := 4) (i := 0) C dX0_in_4 rfl rfl ?_
    refine r_iload_n (pc := 5) (i := 1) C dX0_in_5 rfl rfl ?_
    refine r_icmpge (pc := 6) (tgt := 13) C dX0_in_6 (by decide) h (fun h => ?_) (fun h => ?_)
    · refine r_iconst (pc := 13) (v := 0) C dX0_in_13 (by decide) ?_
      exact r_zretL (pc := 14) C rfl dX0_in_14 (Or.inl rfl) h E
    · refine r_iconst (pc := 9) (v := 1) C dX0_in_9 (by decide) ?_
      refine r_goto (pc := 10) (tgt := 14) C dX0_in_10 (by decide) ?_
      exact r_zretL (pc := 14) C rfl dX0_in_14 (Or.inr rfl) h E
theorem yd_X0_in : xYd yX0_in 2 := ⟨by decide +kernel, by decide +kernel, by decide +kernel⟩
theorem cs_X0_15_X0_in : xCS RX0 15 yX0_in cX0_in 2 (some .boolean) 2 := ⟨by decide, yd_X0_in, Or.inl (lw_S q386 q387 q116 q388)⟩
theorem fd_X0_19 : xFg RX0 19 0 22 2 := ⟨_, rfl, rfl, by decide, by decide, in_X0, Or.inl q313⟩
theorem ft_X0_2 : xFt 0 2 .int false := ⟨_, rfl, by decide +kernel, rfl, rfl⟩
theorem cs_X0_23_X0_has : xCS RX0 23 yX0_has cX0_has 2 (some .boolean) 2 := ⟨by decide, yd_X0_has, Or.inl (lw_S q397 q398 q116 q399)⟩
def g_X0_isTold (F : Nat) (σ : MM) (a0 : Nat) (x1 : Int32) : Option (Int32 × MM) := if mT σ a0 = (0, 22) then (bq (g_X0_in F σ x1 10) fun v2 σ1 => if v2 = 0 then (some (0, σ1)) else ((gI σ1 a0 0 22 2).bind fun v3 => bq (g_X0_has F σ1 v3 x1) fun v5 σ4 => if v5 = 0 then (some (0, σ4)) else (some (1, σ4)))) else none
theorem w_X0_isTold {B F : Nat} {d : Nat} {σ : MM} {a0 : Nat} {x1 : Int32} {rf : Int32} {σf : MM} (hd : 1 ≤ d) (h : g_X0_isTold F σ a0 x1 = some (rf, σf)) : xMA B yX0_isTold cX0_isTold 2 (some .boolean) d 0 0 [rv B a0, .int x1] σ (some (.int rf)) σf := by
  refine xMA.of (by decide +kernel) (Nat.le_of_ble_eq_true rfl) (cat_rv (cat_int cat_nil)) (fun G C E => ?_)
  unfold g_X0_isTold at h
  obtain ⟨-, h⟩ := r_ck h
  refine r_iload_n (pc := 0) (i := 1) C dX0_isTold_0 rfl rfl ?_
  refine r_bipush (pc := 1) (v := 10) C dX0_isTold_1 (by decide) ?_
  refine r_callSI (pc := 3) (As := [.int x1, .int 10]) (st := []) C cs_X0_15_X0_in h (fun _ _ e => w_X0_in (Nat.le_refl 0) e) (Nat.le_trans (Nat.le_of_ble_eq_true rfl) hd) (Nat.le_of_ble_eq_true rfl) dX0_isTold_3 (fun v2 σ1 h => ?_)
  refine r_ifeq (pc := 6) (tgt := 24) C dX0_isTold_6 (by decide) h (fun h => ?_) (fun h => ?_)
  · refine r_iconst (pc := 24) (v := 0) C dX0_isTold_24 (by decide) ?_
    exact r_zretL (pc := 25) C rfl dX0_isTold_25 (Or.inl rfl) h E
  · refine r_aload_n (pc := 9) (i := 0) C dX0_isTold_9 rfl rfl ?_
    refine r_getI (pc := 10) C fd_X0_19 rfl dX0_isTold_10 h (fun v3 h => ?_)
    refine r_iload_n (pc := 13) (i := 1) C dX0_isTold_13 rfl rfl ?_
    refine r_callSI (pc := 14) (As := [.int v3, .int x1]) (st := []) C cs_X0_23_X0_has h (fun _ _ e => w_X0_has (Nat.le_refl 0) e) (Nat.le_trans (Nat.le_of_ble_eq_true rfl) hd) (Nat.le_of_ble_eq_true rfl) dX0_isTold_14 (fun v5 σ4 h => ?_)
    refine r_ifeq (pc := 17) (tgt := 24) C dX0_isTold_17 (by decide) h (fun h => ?_) (fun h => ?_)
    · refine r_iconst (pc := 24) (v := 0) C dX0_isTold_24 (by decide) ?_
      exact r_zretL (pc := 25) C rfl dX0_isTold_25 (Or.inl rfl) h E
    · refine r_iconst (pc := 20) (v := 1) C dX0_isTold_20 (by decide) ?_
      refine r_goto (pc := 21) (tgt := 25) C dX0_isTold_21 (by decide) ?_
      exact r_zretL (pc := 25) C rfl dX0_isTold_25 (Or.inr rfl) h E
theorem t_X0_isTold {F : Nat} {σ : MM} {a0 : Nat} {x1 : Int32} {r : Int32 × MM} (h : g_X0_isTold F σ a0 x1 = some r) : mT σ a0 = (0, 22) := by
  unfold g_X0_isTold at h
  exact (r_ck h).1
def g_X3_gets (F : Nat) (σ : MM) (a0 : Nat) (x1 : Int32) : Option (MM) := if mT σ a0 = (2, 16) then ((pI σ a0 2 16 3 x1).bind fun σ1 => (pI σ1 a0 2 16 5 ((-1))).bind fun σ2 => (gP σ2 a0 2 16 2).bind fun p3 => (gI σ2 a0 2 16 10).bind fun v4 => (rm_ v4 40).bind fun v5 => (sI σ2 p3 v5 x1).bind fun σ6 => (gI σ6 a0 2 16 10).bind fun v7 => (pI σ6 a0 2 16 10 ((v7 + 1))).bind fun σ8 => some σ8) else none
theorem w_X3_gets {B F : Nat} {d : Nat} {σ : MM} {a0 : Nat} {x1 : Int32} {σf : MM} (hd : 0 ≤ d) (h : g_X3_gets F σ a0 x1 = some σf) : xMA B yX3_gets cX3_gets 2 none d 0 0 [rv B a0, .int x1] σ none σf := by
  refine xMA.of (by decide +kernel) (Nat.le_of_ble_eq_true rfl) (cat_rv (cat_int cat_nil)) (fun G C E => ?_)
  unfold g_X3_gets at h
  obtain ⟨-, h⟩ := r_ck h
  refine r_aload_n (pc := 0) (i := 0) C dX3_gets_0 rfl rfl ?_
  refine r_iload_n (pc := 1) (i := 1) C dX3_gets_1 rfl rfl ?_
  refine r_putI (pc := 2) C fd_X3_29 ft_X3_3 dX3_gets_2 h (fun σ1 h => ?_)
  refine r_aload_n (pc := 5) (i := 0) C dX3_gets_5 rfl rfl ?_
  refine r_iconst (pc := 6) (v := (-1)) C dX3_gets_6 (by decide) ?_
  refine r_putI (pc := 7) C fd_X3_33 ft_X3_5 dX3_gets_7 h (fun σ2 h => ?_)
  refine r_aload_n (pc := 10) (i := 0) C dX3_gets_10 rfl rfl ?_
  refine r_getP (pc := 11) C fd_X3_26 rfl dX3_gets_11 h (fun p3 h => ?_)
  refine r_aload_n (pc := 14) (i := 0) C dX3_gets_14 rfl rfl ?_
  refine r_getI (pc := 15) C fd_X3_55 rfl dX3_gets_15 h (fun v4 h => ?_)
  refine r_bipush (pc := 18) (v := 40) C dX3_gets_18 (by decide) ?_
  refine r_irem (pc := 20) C dX3_gets_20 h (fun v5 h => ?_)
  refine r_iload_n (pc := 21) (i := 1) C dX3_gets_21 rfl rfl ?_
  refine r_iast (pc := 22) C dX3_gets_22 h (fun σ6 h => ?_)
  refine r_aload_n (pc := 23) (i := 0) C dX3_gets_23 rfl rfl ?_
  refine r_dup (pc := 24) C dX3_gets_24 ?_
  refine r_getI (pc := 25) C fd_X3_55 rfl dX3_gets_25 h (fun v7 h => ?_)
  refine r_iconst (pc := 28) (v := 1) C dX3_gets_28 (by decide) ?_
  refine r_iadd (pc := 29) C dX3_gets_29 ?_
  refine r_putI (pc := 30) C fd_X3_55 ft_X3_10 dX3_gets_30 h (fun σ8 h => ?_)
  exact r_vret (pc := 33) C rfl dX3_gets_33 h E
theorem t_X3_gets {F : Nat} {σ : MM} {a0 : Nat} {x1 : Int32} {r : MM} (h : g_X3_gets F σ a0 x1 = some r) : mT σ a0 = (2, 16) := by
  unfold g_X3_gets at h
  exact (r_ck h).1
theorem fd_X3_3 : xFg RX3 3 2 16 15 := ⟨_, rfl, rfl, by decide, by decide, in_X3, Or.inl q245⟩
theorem ft_X3_15 : xFt 2 15 (.object "OneCoin") true := ⟨_, rfl, by decide +kernel, rfl, rfl⟩
theorem yd_X0_isTold : xYd yX0_isTold 1 := ⟨by decide +kernel, by decide +kernel, by decide +kernel⟩
theorem cs_X3_147_X0_isTold : xCV RX3 147 yX0_isTold cX0_isTold 2 (some .boolean) 0 22 1 := ⟨by decide, by decide, _, rfl, yd_X0_isTold, Or.inr ⟨lw_meth q396, q116, _, in_nest q903 rfl, q395, qs0⟩⟩
theorem fd_X3_92 : xFg RX3 92 3 1 0 := ⟨_, rfl, rfl, by decide, by decide, in_X4, Or.inr ⟨_, in_nest q210 rfl⟩⟩
theorem yd_X3_gets : xYd yX3_gets 1 := ⟨by decide +kernel, by decide +kernel, by decide +kernel⟩
theorem cs_X3_113_X3_gets : xCV RX3 113 yX3_gets cX3_gets 2 none 2 16 1 := ⟨by decide, by decide, _, rfl, yd_X3_gets, Or.inl ⟨rfl, lw_V q904 q905 q906 q119 q907⟩⟩
def g_X3_pays (F : Nat) (σ : MM) (a0 : Nat) (x1 : Int32) : Option (Int32 × MM) := if mT σ a0 = (2, 16) then ((gP σ a0 2 16 15).bind fun p1 => bq (g_X0_isTold F σ p1 x1) fun v3 σ2 => if v3 = 0 then (some (0, σ2)) else ((gP σ2 a0 2 16 0).bind fun p4 => (gP σ2 p4 3 1 0).bind fun p5 => (gI σ2 a0 2 16 3).bind fun v6 => (aP σ2 p5 22 v6).bind fun p7 => (aI σ2 p7 20 x1).bind fun v8 => if v8 = 0 then (some (0, σ2)) else ((gP σ2 a0 2 16 0).bind fun p9 => (gP σ2 p9 3 1 0).bind fun p10 => (gI σ2 a0 2 16 3).bind fun v11 => (aP σ2 p10 22 v11).bind fun p12 => (aI σ2 p12 20 x1).bind fun v13 => (sI σ2 p12 x1 ((v13 - 1))).bind fun σ14 => (g_X3_gets F σ14 a0 x1).bind fun σ15 => some (1, σ15)))) else none
theorem w_X3_pays {B F : Nat} {d : Nat} {σ : MM} {a0 : Nat} {x1 : Int32} {rf : Int32} {σf : MM} (hd : 2 ≤ d) (h : g_X3_pays F σ a0 x1 = some (rf, σf)) : xMA B yX3_pays cX3_pays 2 (some .boolean) d 0 0 [rv B a0, .int x1] σ (some (.int rf)) σf := by
  refine xMA.of (by decide +kernel) (Nat.le_of_ble_eq_true rfl) (cat_rv (cat_int cat_nil)) (fun G C E => ?_)
  unfold g_X3_pays at h
  obtain ⟨-, h⟩ := r_ck h
  refine r_aload_n (pc := 0) (i := 0) C dX3_pays_0 rfl rfl ?_
  refine r_getP (pc := 1) C fd_X3_3 rfl dX3_pays_1 h (fun p1 h => ?_)
  refine r_iload_n (pc := 4) (i := 1) C dX3_pays_4 rfl rfl ?_
  refine r_callVI (pc := 5) (As := [.int x1]) (st := []) C cs_X3_147_X0_isTold h (fun _ _ e => w_X0_isTold (Nat.le_refl 1) e) (fun _ _ e => t_X0_isTold e) (Nat.le_trans (Nat.le_of_ble_eq_true rfl) hd) (Nat.le_of_ble_eq_true rfl) dX3_pays_5 (fun v3 σ2 h => ?_)
  refine r_ifeq (pc := 8) (tgt := 28) C dX3_pays_8 (by decide) h (fun h => ?_) (fun h => ?_)
  · refine r_iconst (pc := 28) (v := 0) C dX3_pays_28 (by decide) ?_
    exact r_zretL (pc := 29) C rfl dX3_pays_29 (Or.inl rfl) h E
  · refine r_aload_n (pc := 11) (i := 0) C dX3_pays_11 rfl rfl ?_
    refine r_getP (pc := 12) C fd_X3_18 rfl dX3_pays_12 h (fun p4 h => ?_)
    refine r_getP (pc := 15) C fd_X3_92 rfl dX3_pays_15 h (fun p5 h => ?_)
    refine r_aload_n (pc := 18) (i := 0) C dX3_pays_18 rfl rfl ?_
    refine r_getI (pc := 19) C fd_X3_29 rfl dX3_pays_19 h (fun v6 h => ?_)
    refine r_aald (pc := 22) 0 (by decide) C dX3_pays_22 h (fun p7 h => ?_)
    refine r_iload_n (pc := 23) (i := 1) C dX3_pays_23 rfl rfl ?_
    refine r_iald (pc := 24) C dX3_pays_24 h (fun v8 h => ?_)
    refine r_ifne (pc := 25) (tgt := 30) C dX3_pays_25 (by decide) h (fun h => ?_) (fun h => ?_)
    · refine r_aload_n (pc := 30) (i := 0) C dX3_pays_30 rfl rfl ?_
      refine r_getP (pc := 31) C fd_X3_18 rfl dX3_pays_31 h (fun p9 h => ?_)
      refine r_getP (pc := 34) C fd_X3_92 rfl dX3_pays_34 h (fun p10 h => ?_)
      refine r_aload_n (pc := 37) (i := 0) C dX3_pays_37 rfl rfl ?_
      refine r_getI (pc := 38) C fd_X3_29 rfl dX3_pays_38 h (fun v11 h => ?_)
      refine r_aald (pc := 41) 0 (by decide) C dX3_pays_41 h (fun p12 h => ?_)
      refine r_iload_n (pc := 42) (i := 1) C dX3_pays_42 rfl rfl ?_
      refine r_dup2 (pc := 43) C dX3_pays_43 ?_
      refine r_iald (pc := 44) C dX3_pays_44 h (fun v13 h => ?_)
      refine r_iconst (pc := 45) (v := 1) C dX3_pays_45 (by decide) ?_
      refine r_isub (pc := 46) C dX3_pays_46 ?_
      refine r_iast (pc := 47) C dX3_pays_47 h (fun σ14 h => ?_)
      refine r_aload_n (pc := 48) (i := 0) C dX3_pays_48 rfl rfl ?_
      refine r_iload_n (pc := 49) (i := 1) C dX3_pays_49 rfl rfl ?_
      refine r_callVV (pc := 50) (As := [.int x1]) (st := []) C cs_X3_113_X3_gets h (fun _ e => w_X3_gets (Nat.le_refl 0) e) (fun _ e => t_X3_gets e) (Nat.le_trans (Nat.le_of_ble_eq_true rfl) hd) (Nat.le_of_ble_eq_true rfl) dX3_pays_50 (fun σ15 h => ?_)
      refine r_iconst (pc := 53) (v := 1) C dX3_pays_53 (by decide) ?_
      exact r_zretL (pc := 54) C rfl dX3_pays_54 (Or.inr rfl) h E
    · refine r_iconst (pc := 28) (v := 0) C dX3_pays_28 (by decide) ?_
      exact r_zretL (pc := 29) C rfl dX3_pays_29 (Or.inl rfl) h E
theorem t_X3_pays {F : Nat} {σ : MM} {a0 : Nat} {x1 : Int32} {r : Int32 × MM} (h : g_X3_pays F σ a0 x1 = some r) : mT σ a0 = (2, 16) := by
  unfold g_X3_pays at h
  exact (r_ck h).1
theorem fd_X3_110 : xFg RX3 110 2 16 11 := ⟨_, rfl, rfl, by decide, by decide, in_X3, Or.inl q237⟩
theorem ft_X3_11 : xFt 2 11 .int false := ⟨_, rfl, by decide +kernel, rfl, rfl⟩
theorem fd_X3_89 : xFg RX3 89 2 16 12 := ⟨_, rfl, rfl, by decide, by decide, in_X3, Or.inl q239⟩
theorem ft_X3_12 : xFt 2 12 .int false := ⟨_, rfl, by decide +kernel, rfl, rfl⟩
theorem fd_X3_100 : xFg RX3 100 2 16 13 := ⟨_, rfl, rfl, by decide, by decide, in_X3, Or.inl q241⟩
theorem ft_X3_13 : xFt 2 13 .int false := ⟨_, rfl, by decide +kernel, rfl, rfl⟩
def g_X3_begins (F : Nat) (σ : MM) (a0 : Nat) : Option (Nat × MM) := if mT σ a0 = (2, 16) then ((pI σ a0 2 16 11 0).bind fun σ1 => (pI σ1 a0 2 16 12 0).bind fun σ2 => (pI σ2 a0 2 16 13 0).bind fun σ3 => some (a0, σ3)) else none
theorem w_X3_begins {B F : Nat} {d : Nat} {σ : MM} {a0 : Nat} {rf : Nat} {σf : MM} (hd : 0 ≤ d) (h : g_X3_begins F σ a0 = some (rf, σf)) : xMA B yX3_begins cX3_begins 1 (some (.object "OneCoin$Duchy")) d 0 0 [rv B a0] σ (some (rv B rf)) σf := by
  refine xMA.of (by decide +kernel) (Nat.le_of_ble_eq_true rfl) (cat_rv cat_nil) (fun G C E => ?_)
  unfold g_X3_begins at h
  obtain ⟨-, h⟩ := r_ck h
  refine r_aload_n (pc := 0) (i := 0) C dX3_begins_0 rfl rfl ?_
  refine r_iconst (pc := 1) (v := 0) C dX3_begins_1 (by decide) ?_
  refine r_putI (pc := 2) C fd_X3_110 ft_X3_11 dX3_begins_2 h (fun σ1 h => ?_)
  refine r_aload_n (pc := 5) (i := 0) C dX3_begins_5 rfl rfl ?_
  refine r_iconst (pc := 6) (v := 0) C dX3_begins_6 (by decide) ?_
  refine r_putI (pc := 7) C fd_X3_89 ft_X3_12 dX3_begins_7 h (fun σ2 h => ?_)
  refine r_aload_n (pc := 10) (i := 0) C dX3_begins_10 rfl rfl ?_
  refine r_iconst (pc := 11) (v := 0) C dX3_begins_11 (by decide) ?_
  refine r_putI (pc := 12) C fd_X3_100 ft_X3_13 dX3_begins_12 h (fun σ3 h => ?_)
  refine r_aload_n (pc := 15) (i := 0) C dX3_begins_15 rfl rfl ?_
  exact r_aret (pc := 16) C rfl dX3_begins_16 h E
theorem t_X3_begins {F : Nat} {σ : MM} {a0 : Nat} {r : Nat × MM} (h : g_X3_begins F σ a0 = some r) : mT σ a0 = (2, 16) := by
  unfold g_X3_begins at h
  exact (r_ck h).1
def g_X3_canGo (F : Nat) (σ : MM) (a0 : Nat) : Option (Int32 × MM) := if mT σ a0 = (2, 16) then ((gI σ a0 2 16 8).bind fun v1 => if v1 < 9999 then (some (1, σ)) else (some (0, σ))) else none
theorem w_X3_canGo {B F : Nat} {d : Nat} {σ : MM} {a0 : Nat} {rf : Int32} {σf : MM} (hd : 0 ≤ d) (h : g_X3_canGo F σ a0 = some (rf, σf)) : xMA B yX3_canGo cX3_canGo 1 (some .boolean) d 0 0 [rv B a0] σ (some (.int rf)) σf := by
  refine xMA.of (by decide +kernel) (Nat.le_of_ble_eq_true rfl) (cat_rv cat_nil) (fun G C E => ?_)
  unfold g_X3_canGo at h
  obtain ⟨-, h⟩ := r_ck h
  refine r_aload_n (pc := 0) (i := 0) C dX3_canGo_0 rfl rfl ?_
  refine r_getI (pc := 1) C fd_X3_49 rfl dX3_canGo_1 h (fun v1 h => ?_)
  refine r_sipush (pc := 4) (v := 9999) C dX3_canGo_4 (by decide) ?_
  refine r_icmpge (pc := 7) (tgt := 14) C dX3_canGo_7 (by decide) h (fun h => ?_) (fun h => ?_)
  · refine r_iconst (pc := 14) (v := 0) C dX3_canGo_14 (by decide) ?_
    exact r_zretL (pc := 15) C rfl dX3_canGo_15 (Or.inl rfl) h E
  · refine r_iconst (pc := 10) (v := 1) C dX3_canGo_10 (by decide) ?_
    refine r_goto (pc := 11) (tgt := 15) C dX3_canGo_11 (by decide) ?_
    exact r_zretL (pc := 15) C rfl dX3_canGo_15 (Or.inr rfl) h E
theorem t_X3_canGo {F : Nat} {σ : MM} {a0 : Nat} {r : Int32 × MM} (h : g_X3_canGo F σ a0 = some r) : mT σ a0 = (2, 16) := by
  unfold g_X3_canGo at h
  exact (r_ck h).1
def g_X3_draw (F : Nat) (σ : MM) (a0 : Nat) : Option (Int32 × MM) := if mT σ a0 = (2, 16) then ((gI σ a0 2 16 9).bind fun v1 => (rm_ (((25173 * v1) + 13849)) 65536).bind fun v2 => (pI σ a0 2 16 9 v2).bind fun σ3 => (gI σ3 a0 2 16 9).bind fun v4 => (rm_ v4 10).bind fun v5 => some (v5, σ3)) else none
theorem w_X3_draw {B F : Nat} {d : Nat} {σ : MM} {a0 : Nat} {rf : Int32} {σf : MM} (hd : 0 ≤ d) (h : g_X3_draw F σ a0 = some (rf, σf)) : xMA B yX3_draw cX3_draw 1 (some .int) d 0 0 [rv B a0] σ (some (.int rf)) σf := by
  refine xMA.of (by decide +kernel) (Nat.le_of_ble_eq_true rfl) (cat_rv cat_nil) (fun G C E => ?_)
  unfold g_X3_draw at h
  obtain ⟨-, h⟩ := r_ck h
  refine r_aload_n (pc := 0) (i := 0) C dX3_draw_0 rfl rfl ?_
  refine r_sipush (pc := 1) (v := 25173) C dX3_draw_1 (by decide) ?_
  refine r_aload_n (pc := 4) (i := 0) C dX3_draw_4 rfl rfl ?_
  refine r_getI (pc := 5) C fd_X3_52 rfl dX3_draw_5 h (fun v1 h => ?_)
  refine r_imul (pc := 8) C dX3_draw_8 ?_
  refine r_sipush (pc := 9) (v := 13849) C dX3_draw_9 (by decide) ?_
  refine r_iadd (pc := 12) C dX3_draw_12 ?_
  refine r_ldc (pc := 13) C q948 dX3_draw_13 ?_
  refine r_irem (pc := 15) C dX3_draw_15 h (fun v2 h => ?_)
  refine r_putI (pc := 16) C fd_X3_52 ft_X3_9 dX3_draw_16 h (fun σ3 h => ?_)
  refine r_aload_n (pc := 19) (i := 0) C dX3_draw_19 rfl rfl ?_
  refine r_getI (pc := 20) C fd_X3_52 rfl dX3_draw_20 h (fun v4 h => ?_)
  refine r_bipush (pc := 23) (v := 10) C dX3_draw_23 (by decide) ?_
  refine r_irem (pc := 25) C dX3_draw_25 h (fun v5 h => ?_)
  exact r_iret (pc := 26) C rfl dX3_draw_26 h E
theorem t_X3_draw {F : Nat} {σ : MM} {a0 : Nat} {r : Int32 × MM} (h : g_X3_draw F σ a0 = some r) : mT σ a0 = (2, 16) := by
  unfold g_X3_draw at h
  exact (r_ck h).1
theorem yd_X3_draw : xYd yX3_draw 0 := ⟨by decide +kernel, by decide +kernel, by decide +kernel⟩
theorem cs_X3_73_X3_draw : xCV RX3 73 yX3_draw cX3_draw 1 (some .int) 2 16 0 := ⟨by decide, by decide, _, rfl, yd_X3_draw, Or.inl ⟨rfl, lw_V q944 q946 qs25 q119 q947⟩⟩
theorem fd_X3_76 : xFg RX3 76 0 22 3 := ⟨_, rfl, rfl, by decide, by decide, in_X0, Or.inr ⟨_, in_nest q315 rfl⟩⟩
theorem ft_X0_3 : xFt 0 3 (.object "OneCoin$Moment") true := ⟨_, rfl, by decide +kernel, rfl, rfl⟩
theorem cs_X3_80_X2_at : xCV RX3 80 yX2_at cX2_at 3 (some (.object "OneCoin$Moment")) 1 10 2 := ⟨by decide, by decide, _, rfl, yd_X2_at, Or.inl ⟨rfl, lw_V q949 q950 q951 q118 q952⟩⟩
theorem yd_X2_tells : xYd yX2_tells 2 := ⟨by decide +kernel, by decide +kernel, by decide +kernel⟩
theorem cs_X3_86_X2_tells : xCV RX3 86 yX2_tells cX2_tells 3 (some .int) 1 10 2 := ⟨by decide, by decide, _, rfl, yd_X2_tells, Or.inl ⟨rfl, lw_V q953 q954 q955 q118 q956⟩⟩
theorem yd_X2_of : xYd yX2_of 3 := ⟨by decide +kernel, by decide +kernel, by decide +kernel⟩
theorem cs_X3_96_X2_of : xCV RX3 96 yX2_of cX2_of 4 (some (.object "OneCoin$Moment")) 1 10 3 := ⟨by decide, by decide, _, rfl, yd_X2_of, Or.inl ⟨rfl, lw_V q1009 q1010 q1011 q118 q1012⟩⟩
def l_X3_dayBegins_72 (K : MM → Option (MM)) (F : Nat) (a0 : Nat) (x1 : Int32) : Nat → Int32 → MM → Option (MM)
  | 0, _, _ => none
  | f + 1, z2, σ => if z2 < 10 then ((gP σ a0 2 16 0).bind fun p21 => (gP σ p21 3 1 0).bind fun p22 => (aP σ p22 22 x1).bind fun p23 => (aI σ p23 20 z2).bind fun v24 => if v24 = 0 then (l_X3_dayBegins_72 K F a0 x1 f ((z2 + 1)) σ) else ((gP σ a0 2 16 0).bind fun p25 => (gP σ p25 3 1 0).bind fun p26 => (aP σ p26 22 x1).bind fun p27 => (gP σ a0 2 16 15).bind fun p28 => (gP σ p28 0 22 3).bind fun p29 => bq (g_X2_of F σ p29 a0 x1 z2) fun p31 σ30 => bq (g_X2_tells F σ30 p31 105 9) fun v33 σ32 => (sI σ32 p27 z2 ((jmin 99 ((v24 + v33))))).bind fun σ36 => (gI σ36 a0 2 16 13).bind fun v37 => (gP σ36 a0 2 16 0).bind fun p38 => (gP σ36 p38 3 1 0).bind fun p39 => (aP σ36 p39 22 x1).bind fun p40 => (aI σ36 p40 20 z2).bind fun v41 => (pI σ36 a0 2 16 13 ((v37 + (v41 - v24)))).bind fun σ42 => l_X3_dayBegins_72 K F a0 x1 f ((z2 + 1)) σ42)) else (K σ)
def l_X3_dayBegins_64 (K : MM → Option (MM)) (F : Nat) (a0 : Nat) : Nat → Int32 → MM → Option (MM)
  | 0, _, _ => none
  | f + 1, z1, σ => if z1 < 10 then (l_X3_dayBegins_72 (fun (σ43 : MM) => l_X3_dayBegins_64 K F a0 f ((z1 + 1)) σ43) F a0 z1 F 0 σ) else (K σ)
def g_X3_dayBegins (F : Nat) (σ : MM) (a0 : Nat) : Option (MM) := if mT σ a0 = (2, 16) then (bq (g_X3_draw F σ a0) fun v2 σ1 => (gP σ1 a0 2 16 15).bind fun p3 => (gP σ1 p3 0 22 3).bind fun p4 => (gI σ1 a0 2 16 7).bind fun v5 => (gI σ1 a0 2 16 8).bind fun v6 => bq (g_X2_at F σ1 p4 v5 v6) fun p8 σ7 => bq (g_X2_tells F σ7 p8 114 10) fun v10 σ9 => jn (fun (w12 : Int32) (σ11 : MM) => (pZ σ11 a0 2 16 14 w12).bind fun σ14 => (gI σ14 a0 2 16 12).bind fun v15 => (gI σ14 a0 2 16 14).bind fun v16 => jn (fun (w18 : Int32) (σ17 : MM) => (pI σ17 a0 2 16 12 ((v15 + w18))).bind fun σ20 => l_X3_dayBegins_64 (fun (σ44 : MM) => some σ44) F a0 F 0 σ20) (fun k19 => if v16 = 0 then (k19 0 σ14) else (k19 1 σ14))) (fun k13 => if v2 < v10 then (k13 1 σ9) else (k13 0 σ9))) else none
theorem wl_X3_dayBegins_72 {B : Nat} {G : XG} {d : Nat} {σf : MM} (hd : 133 ≤ d) (C : xC B G yX3_dayBegins cX3_dayBegins 4 none d 0 0) (E : xEnd B G none σf 0 0) {K : MM → Option (MM)} {F : Nat} {a0 : Nat} {x1 : Int32} (hK : ∀ (σ : MM), K σ = some σf → xV B G 0 0 σ 163 [(0, rv B a0), (1, .int x1)] []) : ∀ (f : Nat) (z2 : Int32) (σ : MM), l_X3_dayBegins_72 K F a0 x1 f z2 σ = some σf → xV B G 0 0 σ 72 [(0, rv B a0), (1, .int x1), (2, .int z2)] [] := by
  intro f
  induction f with
  | zero =>
    intro z2 σ h
    have h : none = some σf := h
    cases h
  | succ f ih =>
    intro z2 σ h
    rw [l_X3_dayBegins_72.eq_2] at h
    refine r_iload_n (pc := 72) (i := 2) C dX3_dayBegins_72 rfl rfl ?_
    refine r_bipush (pc := 73) (v := 10) C dX3_dayBegins_73 (by decide) ?_
    refine r_icmpge (pc := 75) (tgt := 163) C dX3_dayBegins_75 (by decide) h (fun h => ?_) (fun h => ?_)
    · refine r_pick (lv' := [(0, rv B a0), (1, .int x1)]) [0, 1] rfl ?_
      exact hK _ h
    · refine r_aload_n (pc := 78) (i := 0) C dX3_dayBegins_78 rfl rfl ?_
      refine r_getP (pc := 79) C fd_X3_18 rfl dX3_dayBegins_79 h (fun p21 h => ?_)
      refine r_getP (pc := 82) C fd_X3_92 rfl dX3_dayBegins_82 h (fun p22 h => ?_)
      refine r_iload_n (pc := 85) (i := 1) C dX3_dayBegins_85 rfl rfl ?_
      refine r_aald (pc := 86) 0 (by decide) C dX3_dayBegins_86 h (fun p23 h => ?_)
      refine r_iload_n (pc := 87) (i := 2) C dX3_dayBegins_87 rfl rfl ?_
      refine r_iald (pc := 88) C dX3_dayBegins_88 h (fun v24 h => ?_)
      refine r_istore_n (pc := 89) (i := 3) C dX3_dayBegins_89 rfl (by decide) ?_
      refine r_iload_n (pc := 90) (i := 3) C dX3_dayBegins_90 rfl rfl ?_
      refine r_ifne (pc := 91) (tgt := 97) C dX3_dayBegins_91 (by decide) h (fun h => ?_) (fun h => ?_)
      · refine r_aload_n (pc := 97) (i := 0) C dX3_dayBegins_97 rfl rfl ?_
        refine r_getP (pc := 98) C fd_X3_18 rfl dX3_dayBegins_98 h (fun p25 h => ?_)
        refine r_getP (pc := 101) C fd_X3_92 rfl dX3_dayBegins_101 h (fun p26 h => ?_)
        refine r_iload_n (pc := 104) (i := 1) C dX3_dayBegins_104 rfl rfl ?_
        refine r_aald (pc := 105) 0 (by decide) C dX3_dayBegins_105 h (fun p27 h => ?_)
        refine r_iload_n (pc := 106) (i := 2) C dX3_dayBegins_106 rfl rfl ?_
        refine r_bipush (pc := 107) (v := 99) C dX3_dayBegins_107 (by decide) ?_
        refine r_iload_n (pc := 109) (i := 3) C dX3_dayBegins_109 rfl rfl ?_
        refine r_aload_n (pc := 110) (i := 0) C dX3_dayBegins_110 rfl rfl ?_
        refine r_getP (pc := 111) C fd_X3_3 rfl dX3_dayBegins_111 h (fun p28 h => ?_)
        refine r_getP (pc := 114) C fd_X3_76 rfl dX3_dayBegins_114 h (fun p29 h => ?_)
        refine r_aload_n (pc := 117) (i := 0) C dX3_dayBegins_117 rfl rfl ?_
        refine r_iload_n (pc := 118) (i := 1) C dX3_dayBegins_118 rfl rfl ?_
        refine r_iload_n (pc := 119) (i := 2) C dX3_dayBegins_119 rfl rfl ?_
        refine r_callVP (pc := 120) (As := [rv B a0, .int x1, .int z2]) (st := [.int v24, .int 99, .int z2, rv B p27]) C cs_X3_96_X2_of h (fun _ _ e => w_X2_of (Nat.le_refl 3) e) (fun _ _ e => t_X2_of e) (Nat.le_trans (Nat.le_of_ble_eq_true rfl) hd) (Nat.le_of_ble_eq_true rfl) dX3_dayBegins_120 (fun p31 σ30 h => ?_)
        refine r_bipush (pc := 123) (v := 105) C dX3_dayBegins_123 (by decide) ?_
        refine r_bipush (pc := 125) (v := 9) C dX3_dayBegins_125 (by decide) ?_
        refine r_callVI (pc := 127) (As := [.int 105, .int 9]) (st := [.int v24, .int 99, .int z2, rv B p27]) C cs_X3_86_X2_tells h (fun _ _ e => w_X2_tells (Nat.le_refl 132) e) (fun _ _ e => t_X2_tells e) (Nat.le_trans (Nat.le_of_ble_eq_true rfl) hd) (Nat.le_of_ble_eq_true rfl) dX3_dayBegins_127 (fun v33 σ32 h => ?_)
        refine r_iadd (pc := 130) C dX3_dayBegins_130 ?_
        refine r_mmin (pc := 131) C q1024 q499 q126 q500 (Nat.le_trans (Nat.le_of_ble_eq_true rfl) hd) (Nat.le_of_ble_eq_true rfl) (Nat.le_of_ble_eq_true rfl) (Nat.le_of_ble_eq_true rfl) dX3_dayBegins_131 ?_
        refine r_iast (pc := 134) C dX3_dayBegins_134 h (fun σ36 h => ?_)
        refine r_aload_n (pc := 135) (i := 0) C dX3_dayBegins_135 rfl rfl ?_
        refine r_dup (pc := 136) C dX3_dayBegins_136 ?_
        refine r_getI (pc := 137) C fd_X3_100 rfl dX3_dayBegins_137 h (fun v37 h => ?_)
        refine r_aload_n (pc := 140) (i := 0) C dX3_dayBegins_140 rfl rfl ?_
        refine r_getP (pc := 141) C fd_X3_18 rfl dX3_dayBegins_141 h (fun p38 h => ?_)
        refine r_getP (pc := 144) C fd_X3_92 rfl dX3_dayBegins_144 h (fun p39 h => ?_)
        refine r_iload_n (pc := 147) (i := 1) C dX3_dayBegins_147 rfl rfl ?_
        refine r_aald (pc := 148) 0 (by decide) C dX3_dayBegins_148 h (fun p40 h => ?_)
        refine r_iload_n (pc := 149) (i := 2) C dX3_dayBegins_149 rfl rfl ?_
        refine r_iald (pc := 150) C dX3_dayBegins_150 h (fun v41 h => ?_)
        refine r_iload_n (pc := 151) (i := 3) C dX3_dayBegins_151 rfl rfl ?_
        refine r_isub (pc := 152) C dX3_dayBegins_152 ?_
        refine r_iadd (pc := 153) C dX3_dayBegins_153 ?_
        refine r_putI (pc := 154) C fd_X3_100 ft_X3_13 dX3_dayBegins_154 h (fun σ42 h => ?_)
        refine r_iinc (pc := 157) (i := 2) (v := (z2 + 1)) C dX3_dayBegins_157 rfl rfl (by decide) ?_
        refine r_goto (pc := 160) (tgt := 72) C dX3_dayBegins_160 (by decide) ?_
        refine r_pick (lv' := [(0, rv B a0), (1, .int x1), (2, .int (z2 + 1))]) [0, 1, 2] rfl ?_
        exact ih _ _ h
      · refine r_goto (pc := 94) (tgt := 157) C dX3_dayBegins_94 (by decide) ?_
        refine r_iinc (pc := 157) (i := 2) (v := (z2 + 1)) C dX3_dayBegins_157 rfl rfl (by decide) ?_
        refine r_goto (pc := 160) (tgt := 72) C dX3_dayBegins_160 (by decide) ?_
        refine r_pick (lv' := [(0, rv B a0), (1, .int x1), (2, .int (z2 + 1))]) [0, 1, 2] rfl ?_
        exact ih _ _ h
theorem wl_X3_dayBegins_64 {B : Nat} {G : XG} {d : Nat} {σf : MM} (hd : 133 ≤ d) (C : xC B G yX3_dayBegins cX3_dayBegins 4 none d 0 0) (E : xEnd B G none σf 0 0) {K : MM → Option (MM)} {F : Nat} {a0 : Nat} (hK : ∀ (σ : MM), K σ = some σf → xV B G 0 0 σ 169 [] []) : ∀ (f : Nat) (z1 : Int32) (σ : MM), l_X3_dayBegins_64 K F a0 f z1 σ = some σf → xV B G 0 0 σ 64 [(0, rv B a0), (1, .int z1)] [] := by
  intro f
  induction f with
  | zero =>
    intro z1 σ h
    have h : none = some σf := h
    cases h
  | succ f ih =>
    intro z1 σ h
    rw [l_X3_dayBegins_64.eq_2] at h
    refine r_iload_n (pc := 64) (i := 1) C dX3_dayBegins_64 rfl rfl ?_
    refine r_bipush (pc := 65) (v := 10) C dX3_dayBegins_65 (by decide) ?_
    refine r_icmpge (pc := 67) (tgt := 169) C dX3_dayBegins_67 (by decide) h (fun h => ?_) (fun h => ?_)
    · refine r_pick (lv' := []) [] rfl ?_
      exact hK _ h
    · refine r_iconst (pc := 70) (v := 0) C dX3_dayBegins_70 (by decide) ?_
      refine r_istore_n (pc := 71) (i := 2) C dX3_dayBegins_71 rfl (by decide) ?_
      refine r_pick (lv' := [(0, rv B a0), (1, .int z1), (2, .int 0)]) [0, 1, 2] rfl ?_
      refine wl_X3_dayBegins_72 hd C E (fun  σ43 h => ?_) _ _ _ h
      refine r_iinc (pc := 163) (i := 1) (v := (z1 + 1)) C dX3_dayBegins_163 rfl rfl (by decide) ?_
      refine r_goto (pc := 166) (tgt := 64) C dX3_dayBegins_166 (by decide) ?_
      refine r_pick (lv' := [(0, rv B a0), (1, .int (z1 + 1))]) [0, 1] rfl ?_
      exact ih _ _ h
theorem w_X3_dayBegins {B F : Nat} {d : Nat} {σ : MM} {a0 : Nat} {σf : MM} (hd : 133 ≤ d) (h : g_X3_dayBegins F σ a0 = some σf) : xMA B yX3_dayBegins cX3_dayBegins 4 none d 0 0 [rv B a0] σ none σf := by
  refine xMA.of (by decide +kernel) (Nat.le_of_ble_eq_true rfl) (cat_rv cat_nil) (fun G C E => ?_)
  unfold g_X3_dayBegins at h
  obtain ⟨-, h⟩ := r_ck h
  refine r_aload_n (pc := 0) (i := 0) C dX3_dayBegins_0 rfl rfl ?_
  refine r_aload_n (pc := 1) (i := 0) C dX3_dayBegins_1 rfl rfl ?_
  refine r_callVI (pc := 2) (As := []) (st := [rv B a0]) C cs_X3_73_X3_draw h (fun _ _ e => w_X3_draw (Nat.le_refl 0) e) (fun _ _ e => t_X3_draw e) (Nat.le_trans (Nat.le_of_ble_eq_true rfl) hd) (Nat.le_of_ble_eq_true rfl) dX3_dayBegins_2 (fun v2 σ1 h => ?_)
  refine r_aload_n (pc := 5) (i := 0) C dX3_dayBegins_5 rfl rfl ?_
  refine r_getP (pc := 6) C fd_X3_3 rfl dX3_dayBegins_6 h (fun p3 h => ?_)
  refine r_getP (pc := 9) C fd_X3_76 rfl dX3_dayBegins_9 h (fun p4 h => ?_)
  refine r_aload_n (pc := 12) (i := 0) C dX3_dayBegins_12 rfl rfl ?_
  refine r_getI (pc := 13) C fd_X3_46 rfl dX3_dayBegins_13 h (fun v5 h => ?_)
  refine r_aload_n (pc := 16) (i := 0) C dX3_dayBegins_16 rfl rfl ?_
  refine r_getI (pc := 17) C fd_X3_49 rfl dX3_dayBegins_17 h (fun v6 h => ?_)
  refine r_callVP (pc := 20) (As := [.int v5, .int v6]) (st := [.int v2, rv B a0]) C cs_X3_80_X2_at h (fun _ _ e => w_X2_at (Nat.le_refl 0) e) (fun _ _ e => t_X2_at e) (Nat.le_trans (Nat.le_of_ble_eq_true rfl) hd) (Nat.le_of_ble_eq_true rfl) dX3_dayBegins_20 (fun p8 σ7 h => ?_)
  refine r_bipush (pc := 23) (v := 114) C dX3_dayBegins_23 (by decide) ?_
  refine r_bipush (pc := 25) (v := 10) C dX3_dayBegins_25 (by decide) ?_
  refine r_callVI (pc := 27) (As := [.int 114, .int 10]) (st := [.int v2, rv B a0]) C cs_X3_86_X2_tells h (fun _ _ e => w_X2_tells (Nat.le_refl 132) e) (fun _ _ e => t_X2_tells e) (Nat.le_trans (Nat.le_of_ble_eq_true rfl) hd) (Nat.le_of_ble_eq_true rfl) dX3_dayBegins_27 (fun v10 σ9 h => ?_)
  refine r_jn (fun k9 => ∀ (w12 : Int32) (σ11 : MM), k9 w12 σ11 = some σf → xV B G 0 0 σ11 38 [(0, rv B a0)] [.int w12, rv B a0]) h (fun w12 σ11 h => ?_) (fun k13 hk13 h => ?_)
  · refine r_putZ (pc := 38) C fd_X3_58 ft_X3_14 dX3_dayBegins_38 h (fun σ14 h => ?_)
    refine r_aload_n (pc := 41) (i := 0) C dX3_dayBegins_41 rfl rfl ?_
    refine r_dup (pc := 42) C dX3_dayBegins_42 ?_
    refine r_getI (pc := 43) C fd_X3_89 rfl dX3_dayBegins_43 h (fun v15 h => ?_)
    refine r_aload_n (pc := 46) (i := 0) C dX3_dayBegins_46 rfl rfl ?_
    refine r_getI (pc := 47) C fd_X3_58 rfl dX3_dayBegins_47 h (fun v16 h => ?_)
    refine r_jn (fun k9 => ∀ (w18 : Int32) (σ17 : MM), k9 w18 σ17 = some σf → xV B G 0 0 σ17 58 [(0, rv B a0)] [.int w18, .int v15, rv B a0]) h (fun w18 σ17 h => ?_) (fun k19 hk19 h => ?_)
    · refine r_iadd (pc := 58) C dX3_dayBegins_58 ?_
      refine r_putI (pc := 59) C fd_X3_89 ft_X3_12 dX3_dayBegins_59 h (fun σ20 h => ?_)
      refine r_iconst (pc := 62) (v := 0) C dX3_dayBegins_62 (by decide) ?_
      refine r_istore_n (pc := 63) (i := 1) C dX3_dayBegins_63 rfl (by decide) ?_
      refine r_pick (lv' := [(0, rv B a0), (1, .int 0)]) [0, 1] rfl ?_
      refine wl_X3_dayBegins_64 hd C E (fun  σ44 h => ?_) _ _ _ h
      exact r_vret (pc := 169) C rfl dX3_dayBegins_169 h E
    · refine r_ifeq (pc := 50) (tgt := 57) C dX3_dayBegins_50 (by decide) h (fun h => ?_) (fun h => ?_)
      · refine r_iconst (pc := 57) (v := 0) C dX3_dayBegins_57 (by decide) ?_
        refine r_pick (lv' := [(0, rv B a0)]) [0] rfl ?_
        exact hk19 _ _ h
      · refine r_iconst (pc := 53) (v := 1) C dX3_dayBegins_53 (by decide) ?_
        refine r_goto (pc := 54) (tgt := 58) C dX3_dayBegins_54 (by decide) ?_
        refine r_pick (lv' := [(0, rv B a0)]) [0] rfl ?_
        exact hk19 _ _ h
  · refine r_icmpge (pc := 30) (tgt := 37) C dX3_dayBegins_30 (by decide) h (fun h => ?_) (fun h => ?_)
    · refine r_iconst (pc := 37) (v := 0) C dX3_dayBegins_37 (by decide) ?_
      refine r_pick (lv' := [(0, rv B a0)]) [0] rfl ?_
      exact hk13 _ _ h
    · refine r_iconst (pc := 33) (v := 1) C dX3_dayBegins_33 (by decide) ?_
      refine r_goto (pc := 34) (tgt := 38) C dX3_dayBegins_34 (by decide) ?_
      refine r_pick (lv' := [(0, rv B a0)]) [0] rfl ?_
      exact hk13 _ _ h
theorem t_X3_dayBegins {F : Nat} {σ : MM} {a0 : Nat} {r : MM} (h : g_X3_dayBegins F σ a0 = some r) : mT σ a0 = (2, 16) := by
  unfold g_X3_dayBegins at h
  exact (r_ck h).1
def g_X3_arrives (F : Nat) (σ : MM) (a0 : Nat) : Option (MM) := if mT σ a0 = (2, 16) then ((gP σ a0 2 16 0).bind fun p1 => (gP σ p1 3 1 0).bind fun p2 => (gI σ a0 2 16 4).bind fun v3 => (aP σ p2 22 v3).bind fun p4 => (gI σ a0 2 16 5).bind fun v5 => (gP σ a0 2 16 0).bind fun p6 => (gP σ p6 3 1 0).bind fun p7 => (gI σ a0 2 16 4).bind fun v8 => (aP σ p7 22 v8).bind fun p9 => (gI σ a0 2 16 5).bind fun v10 => (aI σ p9 20 v10).bind fun v11 => (sI σ p4 v5 ((jmax 0 ((v11 - 1))))).bind fun σ14 => (gI σ14 a0 2 16 11).bind fun v15 => (pI σ14 a0 2 16 11 ((v15 + 1))).bind fun σ16 => (gI σ16 a0 2 16 5).bind fun v17 => (g_X3_gets F σ16 a0 v17).bind fun σ18 => some σ18) else none
theorem w_X3_arrives {B F : Nat} {d : Nat} {σ : MM} {a0 : Nat} {σf : MM} (hd : 1 ≤ d) (h : g_X3_arrives F σ a0 = some σf) : xMA B yX3_arrives cX3_arrives 1 none d 0 0 [rv B a0] σ none σf := by
  refine xMA.of (by decide +kernel) (Nat.le_of_ble_eq_true rfl) (cat_rv cat_nil) (fun G C E => ?_)
  unfold g_X3_arrives at h
  obtain ⟨-, h⟩ := r_ck h
  refine r_aload_n (pc := 0) (i := 0) C dX3_arrives_0 rfl rfl ?_
  refine r_getP (pc := 1) C fd_X3_18 rfl dX3_arrives_1 h (fun p1 h => ?_)
  refine r_getP (pc := 4) C fd_X3_92 rfl dX3_arrives_4 h (fun p2 h => ?_)
  refine r_aload_n (pc := 7) (i := 0) C dX3_arrives_7 rfl rfl ?_
  refine r_getI (pc := 8) C fd_X3_40 rfl dX3_arrives_8 h (fun v3 h => ?_)
  refine r_aald (pc := 11) 0 (by decide) C dX3_arrives_11 h (fun p4 h => ?_)
  refine r_aload_n (pc := 12) (i := 0) C dX3_arrives_12 rfl rfl ?_
  refine r_getI (pc := 13) C fd_X3_33 rfl dX3_arrives_13 h (fun v5 h => ?_)
  refine r_iconst (pc := 16) (v := 0) C dX3_arrives_16 (by decide) ?_
  refine r_aload_n (pc := 17) (i := 0) C dX3_arrives_17 rfl rfl ?_
  refine r_getP (pc := 18) C fd_X3_18 rfl dX3_arrives_18 h (fun p6 h => ?_)
  refine r_getP (pc := 21) C fd_X3_92 rfl dX3_arrives_21 h (fun p7 h => ?_)
  refine r_aload_n (pc := 24) (i := 0) C dX3_arrives_24 rfl rfl ?_
  refine r_getI (pc := 25) C fd_X3_40 rfl dX3_arrives_25 h (fun v8 h => ?_)
  refine r_aald (pc := 28) 0 (by decide) C dX3_arrives_28 h (fun p9 h => ?_)
  refine r_aload_n (pc := 29) (i := 0) C dX3_arrives_29 rfl rfl ?_
  refine r_getI (pc := 30) C fd_X3_33 rfl dX3_arrives_30 h (fun v10 h => ?_)
  refine r_iald (pc := 33) C dX3_arrives_33 h (fun v11 h => ?_)
  refine r_iconst (pc := 34) (v := 1) C dX3_arrives_34 (by decide) ?_
  refine r_isub (pc := 35) C dX3_arrives_35 ?_
  refine r_mmax (pc := 36) C q1029 q496 q126 q497 (Nat.le_trans (Nat.le_of_ble_eq_true rfl) hd) (Nat.le_of_ble_eq_true rfl) (Nat.le_of_ble_eq_true rfl) (Nat.le_of_ble_eq_true rfl) dX3_arrives_36 ?_
  refine r_iast (pc := 39) C dX3_arrives_39 h (fun σ14 h => ?_)
  refine r_aload_n (pc := 40) (i := 0) C dX3_arrives_40 rfl rfl ?_
  refine r_dup (pc := 41) C dX3_arrives_41 ?_
  refine r_getI (pc := 42) C fd_X3_110 rfl dX3_arrives_42 h (fun v15 h => ?_)
  refine r_iconst (pc := 45) (v := 1) C dX3_arrives_45 (by decide) ?_
  refine r_iadd (pc := 46) C dX3_arrives_46 ?_
  refine r_putI (pc := 47) C fd_X3_110 ft_X3_11 dX3_arrives_47 h (fun σ16 h => ?_)
  refine r_aload_n (pc := 50) (i := 0) C dX3_arrives_50 rfl rfl ?_
  refine r_aload_n (pc := 51) (i := 0) C dX3_arrives_51 rfl rfl ?_
  refine r_getI (pc := 52) C fd_X3_33 rfl dX3_arrives_52 h (fun v17 h => ?_)
  refine r_callVV (pc := 55) (As := [.int v17]) (st := []) C cs_X3_113_X3_gets h (fun _ e => w_X3_gets (Nat.le_refl 0) e) (fun _ e => t_X3_gets e) (Nat.le_trans (Nat.le_of_ble_eq_true rfl) hd) (Nat.le_of_ble_eq_true rfl) dX3_arrives_55 (fun σ18 h => ?_)
  exact r_vret (pc := 58) C rfl dX3_arrives_58 h E
theorem t_X3_arrives {F : Nat} {σ : MM} {a0 : Nat} {r : MM} (h : g_X3_arrives F σ a0 = some r) : mT σ a0 = (2, 16) := by
  unfold g_X3_arrives at h
  exact (r_ck h).1
def g_X0_within (F : Nat) (σ : MM) (x0 : Int32) (x1 : Int32) (x2 : Int32) : Option (Int32 × MM) := if x0 < x1 then (some (0, σ)) else (if x2 < x0 then (some (0, σ)) else (some (1, σ)))
theorem w_X0_within {B F : Nat} {d : Nat} {σ : MM} {x0 : Int32} {x1 : Int32} {x2 : Int32} {rf : Int32} {σf : MM} (hd : 0 ≤ d) (h : g_X0_within F σ x0 x1 x2 = some (rf, σf)) : xMA B yX0_within cX0_within 3 (some .boolean) d 0 0 [.int x0, .int x1, .int x2] σ (some (.int rf)) σf := by
  refine xMA.of (by decide +kernel) (Nat.le_of_ble_eq_true rfl) (cat_int (cat_int (cat_int cat_nil))) (fun G C E => ?_)
  unfold g_X0_within at h
  refine r_iload_n (pc := 0) (i := 0) C dX0_within_0 rfl rfl ?_
  refine r_iload_n (pc := 1) (i := 1) C dX0_within_1 rfl rfl ?_
  refine r_icmplt (pc := 2) (tgt := 14) C dX0_within_2 (by decide) h (fun h => ?_) (fun h => ?_)
  · refine r_iconst (pc := 14) (v := 0) C dX0_within_14 (by decide) ?_
    exact r_zretL (pc := 15) C rfl dX0_within_15 (Or.inl rfl) h E
  · refine r_iload_n (pc := 5) (i := 0) C dX0_within_5 rfl rfl ?_
    refine r_iload_n (pc := 6) (i := 2) C dX0_within_6 rfl rfl ?_
    refine r_icmpgt (pc := 7) (tgt := 14) C dX0_within_7 (by decide) h (fun h => ?_) (fun h => ?_)
    · refine r_iconst (pc := 14) (v := 0) C dX0_within_14 (by decide) ?_
      exact r_zretL (pc := 15) C rfl dX0_within_15 (Or.inl rfl) h E
    · refine r_iconst (pc := 10) (v := 1) C dX0_within_10 (by decide) ?_
      refine r_goto (pc := 11) (tgt := 15) C dX0_within_11 (by decide) ?_
      exact r_zretL (pc := 15) C rfl dX0_within_15 (Or.inr rfl) h E
theorem fd_X0_37 : xFg RX0 37 0 22 3 := ⟨_, rfl, rfl, by decide, by decide, in_X0, Or.inl q314⟩
theorem cs_X0_41_X2_of : xCV RX0 41 yX2_of cX2_of 4 (some (.object "OneCoin$Moment")) 1 10 3 := ⟨by decide, by decide, _, rfl, yd_X2_of, Or.inl ⟨rfl, lw_V q1043 q1010 q1011 q118 q1012⟩⟩
theorem yd_X2_willNot : xYd yX2_willNot 0 := ⟨by decide +kernel, by decide +kernel, by decide +kernel⟩
theorem cs_X0_47_X2_willNot : xCV RX0 47 yX2_willNot cX2_willNot 1 (some .boolean) 1 10 0 := ⟨by decide, by decide, _, rfl, yd_X2_willNot, Or.inl ⟨rfl, lw_V q1044 q1045 q1046 q118 q1047⟩⟩
theorem cs_X0_51_X2_tells : xCV RX0 51 yX2_tells cX2_tells 3 (some .int) 1 10 2 := ⟨by decide, by decide, _, rfl, yd_X2_tells, Or.inl ⟨rfl, lw_V q1052 q954 q955 q118 q956⟩⟩
def g_X0_likingOf (F : Nat) (σ : MM) (a0 : Nat) (a1 : Nat) (x2 : Int32) (x3 : Int32) : Option (Int32 × MM) := if mT σ a0 = (0, 22) then ((gP σ a0 0 22 3).bind fun p1 => bq (g_X2_of F σ p1 a1 x2 x3) fun p3 σ2 => bq (g_X2_willNot F σ2 p3) fun v5 σ4 => if v5 = 0 then ((gP σ4 a0 0 22 3).bind fun p6 => bq (g_X2_of F σ4 p6 a1 x2 x3) fun p8 σ7 => bq (g_X2_tells F σ7 p8 101 9999) fun v10 σ9 => some (v10, σ9)) else (some (0, σ4))) else none
theorem w_X0_likingOf {B F : Nat} {d : Nat} {σ : MM} {a0 : Nat} {a1 : Nat} {x2 : Int32} {x3 : Int32} {rf : Int32} {σf : MM} (hd : 133 ≤ d) (h : g_X0_likingOf F σ a0 a1 x2 x3 = some (rf, σf)) : xMA B yX0_likingOf cX0_likingOf 4 (some .int) d 0 0 [rv B a0, rv B a1, .int x2, .int x3] σ (some (.int rf)) σf := by
  refine xMA.of (by decide +kernel) (Nat.le_of_ble_eq_true rfl) (cat_rv (cat_rv (cat_int (cat_int cat_nil)))) (fun G C E => ?_)
  unfold g_X0_likingOf at h
  obtain ⟨-, h⟩ := r_ck h
  refine r_aload_n (pc := 0) (i := 0) C dX0_likingOf_0 rfl rfl ?_
  refine r_getP (pc := 1) C fd_X0_37 rfl dX0_likingOf_1 h (fun p1 h => ?_)
  refine r_aload_n (pc := 4) (i := 1) C dX0_likingOf_4 rfl rfl ?_
  refine r_iload_n (pc := 5) (i := 2) C dX0_likingOf_5 rfl rfl ?_
  refine r_iload_n (pc := 6) (i := 3) C dX0_likingOf_6 rfl rfl ?_
  refine r_callVP (pc := 7) (As := [rv B a1, .int x2, .int x3]) (st := []) C cs_X0_41_X2_of h (fun _ _ e => w_X2_of (Nat.le_refl 3) e) (fun _ _ e => t_X2_of e) (Nat.le_trans (Nat.le_of_ble_eq_true rfl) hd) (Nat.le_of_ble_eq_true rfl) dX0_likingOf_7 (fun p3 σ2 h => ?_)
  refine r_callVI (pc := 10) (As := []) (st := []) C cs_X0_47_X2_willNot h (fun _ _ e => w_X2_willNot (Nat.le_refl 132) e) (fun _ _ e => t_X2_willNot e) (Nat.le_trans (Nat.le_of_ble_eq_true rfl) hd) (Nat.le_of_ble_eq_true rfl) dX0_likingOf_10 (fun v5 σ4 h => ?_)
  refine r_ifeq (pc := 13) (tgt := 20) C dX0_likingOf_13 (by decide) h (fun h => ?_) (fun h => ?_)
  · refine r_aload_n (pc := 20) (i := 0) C dX0_likingOf_20 rfl rfl ?_
    refine r_getP (pc := 21) C fd_X0_37 rfl dX0_likingOf_21 h (fun p6 h => ?_)
    refine r_aload_n (pc := 24) (i := 1) C dX0_likingOf_24 rfl rfl ?_
    refine r_iload_n (pc := 25) (i := 2) C dX0_likingOf_25 rfl rfl ?_
    refine r_iload_n (pc := 26) (i := 3) C dX0_likingOf_26 rfl rfl ?_
    refine r_callVP (pc := 27) (As := [rv B a1, .int x2, .int x3]) (st := []) C cs_X0_41_X2_of h (fun _ _ e => w_X2_of (Nat.le_refl 3) e) (fun _ _ e => t_X2_of e) (Nat.le_trans (Nat.le_of_ble_eq_true rfl) hd) (Nat.le_of_ble_eq_true rfl) dX0_likingOf_27 (fun p8 σ7 h => ?_)
    refine r_bipush (pc := 30) (v := 101) C dX0_likingOf_30 (by decide) ?_
    refine r_sipush (pc := 32) (v := 9999) C dX0_likingOf_32 (by decide) ?_
    refine r_callVI (pc := 35) (As := [.int 101, .int 9999]) (st := []) C cs_X0_51_X2_tells h (fun _ _ e => w_X2_tells (Nat.le_refl 132) e) (fun _ _ e => t_X2_tells e) (Nat.le_trans (Nat.le_of_ble_eq_true rfl) hd) (Nat.le_of_ble_eq_true rfl) dX0_likingOf_35 (fun v10 σ9 h => ?_)
    exact r_iret (pc := 38) C rfl dX0_likingOf_38 h E
  · refine r_iconst (pc := 16) (v := 0) C dX0_likingOf_16 (by decide) ?_
    refine r_goto (pc := 17) (tgt := 38) C dX0_likingOf_17 (by decide) ?_
    exact r_iret (pc := 38) C rfl dX0_likingOf_38 h E
theorem t_X0_likingOf {F : Nat} {σ : MM} {a0 : Nat} {a1 : Nat} {x2 : Int32} {x3 : Int32} {r : Int32 × MM} (h : g_X0_likingOf F σ a0 a1 x2 x3 = some r) : mT σ a0 = (0, 22) := by
  unfold g_X0_likingOf at h
  exact (r_ck h).1
theorem yd_X0_likingOf : xYd yX0_likingOf 3 := ⟨by decide +kernel, by decide +kernel, by decide +kernel⟩
theorem cs_X3_103_X0_likingOf : xCV RX3 103 yX0_likingOf cX0_likingOf 4 (some .int) 0 22 3 := ⟨by decide, by decide, _, rfl, yd_X0_likingOf, Or.inr ⟨lw_meth q1042, q116, _, in_nest q1039 rfl, q1041, qs29⟩⟩
def l_X3_nextPaid_6 (K : Int32 → MM → Option (Int32 × MM)) (F : Nat) (a0 : Nat) : Nat → Int32 → Int32 → Int32 → MM → Option (Int32 × MM)
  | 0, _, _, _, _ => none
  | f + 1, z1, z2, z3, σ => if z3 < 10 then ((gP σ a0 2 16 0).bind fun p1 => (gP σ p1 3 1 0).bind fun p2 => (gI σ a0 2 16 3).bind fun v3 => (aP σ p2 22 v3).bind fun p4 => (aI σ p4 20 z3).bind fun v5 => jn (fun (w7 : Int32) (σ6 : MM) => if z2 < w7 then (l_X3_nextPaid_6 K F a0 f z3 w7 ((z3 + 1)) σ6) else (l_X3_nextPaid_6 K F a0 f z1 z2 ((z3 + 1)) σ6)) (fun k8 => if v5 = 0 then (k8 0 σ) else ((gP σ a0 2 16 15).bind fun p9 => (gI σ a0 2 16 3).bind fun v10 => bq (g_X0_likingOf F σ p9 a0 v10 z3) fun v12 σ11 => k8 v12 σ11))) else (K z1 σ)
def g_X3_nextPaid (F : Nat) (σ : MM) (a0 : Nat) : Option (Int32 × MM) := if mT σ a0 = (2, 16) then (l_X3_nextPaid_6 (fun (r1_14 : Int32) (σ13 : MM) => some (r1_14, σ13)) F a0 F ((-1)) 0 0 σ) else none
theorem wl_X3_nextPaid_6 {B : Nat} {G : XG} {d : Nat} {rf : Int32} {σf : MM} (hd : 134 ≤ d) (C : xC B G yX3_nextPaid cX3_nextPaid 5 (some .int) d 0 0) (E : xEnd B G (some (.int rf)) σf 0 0) {K : Int32 → MM → Option (Int32 × MM)} {F : Nat} {a0 : Nat} (hK : ∀ (q1 : Int32) (σ : MM), K q1 σ = some (rf, σf) → xV B G 0 0 σ 68 [(1, .int q1)] []) : ∀ (f : Nat) (z1 : Int32) (z2 : Int32) (z3 : Int32) (σ : MM), l_X3_nextPaid_6 K F a0 f z1 z2 z3 σ = some (rf, σf) → xV B G 0 0 σ 6 [(0, rv B a0), (1, .int z1), (2, .int z2), (3, .int z3)] [] := by
  intro f
  induction f with
  | zero =>
    intro z1 z2 z3 σ h
    have h : none = some (rf, σf) := h
    cases h
  | succ f ih =>
    intro z1 z2 z3 σ h
    rw [l_X3_nextPaid_6.eq_2] at h
    refine r_iload_n (pc := 6) (i := 3) C dX3_nextPaid_6 rfl rfl ?_
    refine r_bipush (pc := 7) (v := 10) C dX3_nextPaid_7 (by decide) ?_
    refine r_icmpge (pc := 9) (tgt := 68) C dX3_nextPaid_9 (by decide) h (fun h => ?_) (fun h => ?_)
    · refine r_pick (lv' := [(1, .int z1)]) [1] rfl ?_
      exact hK _ _ h
    · refine r_aload_n (pc := 12) (i := 0) C dX3_nextPaid_12 rfl rfl ?_
      refine r_getP (pc := 13) C fd_X3_18 rfl dX3_nextPaid_13 h (fun p1 h => ?_)
      refine r_getP (pc := 16) C fd_X3_92 rfl dX3_nextPaid_16 h (fun p2 h => ?_)
      refine r_aload_n (pc := 19) (i := 0) C dX3_nextPaid_19 rfl rfl ?_
      refine r_getI (pc := 20) C fd_X3_29 rfl dX3_nextPaid_20 h (fun v3 h => ?_)
      refine r_aald (pc := 23) 0 (by decide) C dX3_nextPaid_23 h (fun p4 h => ?_)
      refine r_iload_n (pc := 24) (i := 3) C dX3_nextPaid_24 rfl rfl ?_
      refine r_iald (pc := 25) C dX3_nextPaid_25 h (fun v5 h => ?_)
      refine r_jn (fun k9 => ∀ (w7 : Int32) (σ6 : MM), k9 w7 σ6 = some (rf, σf) → xV B G 0 0 σ6 46 [(0, rv B a0), (1, .int z1), (2, .int z2), (3, .int z3)] [.int w7]) h (fun w7 σ6 h => ?_) (fun k8 hk8 h => ?_)
      · refine r_istore (pc := 46) (i := 4) C dX3_nextPaid_46 (by decide) ?_
        refine r_iload (pc := 48) (i := 4) C dX3_nextPaid_48 rfl ?_
        refine r_iload_n (pc := 50) (i := 2) C dX3_nextPaid_50 rfl rfl ?_
        refine r_icmpgt (pc := 51) (tgt := 57) C dX3_nextPaid_51 (by decide) h (fun h => ?_) (fun h => ?_)
        · refine r_iload_n (pc := 57) (i := 3) C dX3_nextPaid_57 rfl rfl ?_
          refine r_istore_n (pc := 58) (i := 1) C dX3_nextPaid_58 rfl (by decide) ?_
          refine r_iload (pc := 59) (i := 4) C dX3_nextPaid_59 rfl ?_
          refine r_istore_n (pc := 61) (i := 2) C dX3_nextPaid_61 rfl (by decide) ?_
          refine r_iinc (pc := 62) (i := 3) (v := (z3 + 1)) C dX3_nextPaid_62 rfl rfl (by decide) ?_
          refine r_goto (pc := 65) (tgt := 6) C dX3_nextPaid_65 (by decide) ?_
          refine r_pick (lv' := [(0, rv B a0), (1, .int z3), (2, .int w7), (3, .int (z3 + 1))]) [0, 1, 2, 3] rfl ?_
          exact ih _ _ _ _ h
        · refine r_goto (pc := 54) (tgt := 62) C dX3_nextPaid_54 (by decide) ?_
          refine r_iinc (pc := 62) (i := 3) (v := (z3 + 1)) C dX3_nextPaid_62 rfl rfl (by decide) ?_
          refine r_goto (pc := 65) (tgt := 6) C dX3_nextPaid_65 (by decide) ?_
          refine r_pick (lv' := [(0, rv B a0), (1, .int z1), (2, .int z2), (3, .int (z3 + 1))]) [0, 1, 2, 3] rfl ?_
          exact ih _ _ _ _ h
      · refine r_ifne (pc := 26) (tgt := 33) C dX3_nextPaid_26 (by decide) h (fun h => ?_) (fun h => ?_)
        · refine r_aload_n (pc := 33) (i := 0) C dX3_nextPaid_33 rfl rfl ?_
          refine r_getP (pc := 34) C fd_X3_3 rfl dX3_nextPaid_34 h (fun p9 h => ?_)
          refine r_aload_n (pc := 37) (i := 0) C dX3_nextPaid_37 rfl rfl ?_
          refine r_aload_n (pc := 38) (i := 0) C dX3_nextPaid_38 rfl rfl ?_
          refine r_getI (pc := 39) C fd_X3_29 rfl dX3_nextPaid_39 h (fun v10 h => ?_)
          refine r_iload_n (pc := 42) (i := 3) C dX3_nextPaid_42 rfl rfl ?_
          refine r_callVI (pc := 43) (As := [rv B a0, .int v10, .int z3]) (st := []) C cs_X3_103_X0_likingOf h (fun _ _ e => w_X0_likingOf (Nat.le_refl 133) e) (fun _ _ e => t_X0_likingOf e) (Nat.le_trans (Nat.le_of_ble_eq_true rfl) hd) (Nat.le_of_ble_eq_true rfl) dX3_nextPaid_43 (fun v12 σ11 h => ?_)
          refine r_pick (lv' := [(0, rv B a0), (1, .int z1), (2, .int z2), (3, .int z3)]) [0, 1, 2, 3] rfl ?_
          exact hk8 _ _ h
        · refine r_iconst (pc := 29) (v := 0) C dX3_nextPaid_29 (by decide) ?_
          refine r_goto (pc := 30) (tgt := 46) C dX3_nextPaid_30 (by decide) ?_
          refine r_pick (lv' := [(0, rv B a0), (1, .int z1), (2, .int z2), (3, .int z3)]) [0, 1, 2, 3] rfl ?_
          exact hk8 _ _ h
theorem w_X3_nextPaid {B F : Nat} {d : Nat} {σ : MM} {a0 : Nat} {rf : Int32} {σf : MM} (hd : 134 ≤ d) (h : g_X3_nextPaid F σ a0 = some (rf, σf)) : xMA B yX3_nextPaid cX3_nextPaid 5 (some .int) d 0 0 [rv B a0] σ (some (.int rf)) σf := by
  refine xMA.of (by decide +kernel) (Nat.le_of_ble_eq_true rfl) (cat_rv cat_nil) (fun G C E => ?_)
  unfold g_X3_nextPaid at h
  obtain ⟨-, h⟩ := r_ck h
  refine r_iconst (pc := 0) (v := (-1)) C dX3_nextPaid_0 (by decide) ?_
  refine r_istore_n (pc := 1) (i := 1) C dX3_nextPaid_1 rfl (by decide) ?_
  refine r_iconst (pc := 2) (v := 0) C dX3_nextPaid_2 (by decide) ?_
  refine r_istore_n (pc := 3) (i := 2) C dX3_nextPaid_3 rfl (by decide) ?_
  refine r_iconst (pc := 4) (v := 0) C dX3_nextPaid_4 (by decide) ?_
  refine r_istore_n (pc := 5) (i := 3) C dX3_nextPaid_5 rfl (by decide) ?_
  refine r_pick (lv' := [(0, rv B a0), (1, .int (-1)), (2, .int 0), (3, .int 0)]) [0, 1, 2, 3] rfl ?_
  refine wl_X3_nextPaid_6 hd C E (fun r1_14 σ13 h => ?_) _ _ _ _ _ h
  refine r_iload_n (pc := 68) (i := 1) C dX3_nextPaid_68 rfl rfl ?_
  exact r_iret (pc := 69) C rfl dX3_nextPaid_69 h E
theorem t_X3_nextPaid {F : Nat} {σ : MM} {a0 : Nat} {r : Int32 × MM} (h : g_X3_nextPaid F σ a0 = some r) : mT σ a0 = (2, 16) := by
  unfold g_X3_nextPaid at h
  exact (r_ck h).1
theorem yd_X0_within : xYd yX0_within 3 := ⟨by decide +kernel, by decide +kernel, by decide +kernel⟩
theorem cs_X3_117_X0_within : xCS RX3 117 yX0_within cX0_within 3 (some .boolean) 3 := ⟨by decide, yd_X0_within, Or.inr ⟨lw_meth q402, q116, _, in_nest q1034 rfl, q401⟩⟩
theorem cs_X3_124_X0_way : xCV RX3 124 yX0_way cX0_way 3 (some .int) 0 22 2 := ⟨by decide, by decide, _, rfl, yd_X0_way, Or.inr ⟨lw_meth q911, q116, _, in_nest q1053 rfl, q910, qs23⟩⟩
theorem yd_X3_nextPaid : xYd yX3_nextPaid 0 := ⟨by decide +kernel, by decide +kernel, by decide +kernel⟩
theorem cs_X3_121_X3_nextPaid : xCV RX3 121 yX3_nextPaid cX3_nextPaid 5 (some .int) 2 16 0 := ⟨by decide, by decide, _, rfl, yd_X3_nextPaid, Or.inl ⟨rfl, lw_V q1035 q1037 qs28 q119 q1038⟩⟩
def g_X3_stays (F : Nat) (σ : MM) (a0 : Nat) : Option (MM) := if mT σ a0 = (2, 16) then ((gP σ a0 2 16 1).bind fun p1 => (gI σ a0 2 16 3).bind fun v2 => (aI σ p1 20 v2).bind fun v3 => (sI σ p1 v2 ((v3 + 1))).bind fun σ4 => (gI σ4 a0 2 16 7).bind fun v5 => bq (g_X0_within F σ4 v5 6 19) fun v7 σ6 => jn (fun (w9 : Int32) (σ8 : MM) => if w9 = (-1) then (some σ8) else ((pI σ8 a0 2 16 5 w9).bind fun σ11 => (gI σ11 a0 2 16 3).bind fun v12 => (pI σ11 a0 2 16 4 v12).bind fun σ13 => (gP σ13 a0 2 16 15).bind fun p14 => (gI σ13 a0 2 16 3).bind fun v15 => bq (g_X0_way F σ13 p14 v15 w9) fun v17 σ16 => (pI σ16 a0 2 16 6 v17).bind fun σ18 => (pI σ18 a0 2 16 3 ((-1))).bind fun σ19 => some σ19)) (fun k10 => if v7 = 0 then (k10 ((-1)) σ6) else ((gI σ6 a0 2 16 14).bind fun v20 => if v20 = 0 then (bq (g_X3_nextPaid F σ6 a0) fun v22 σ21 => k10 v22 σ21) else (k10 ((-1)) σ6)))) else none
theorem w_X3_stays {B F : Nat} {d : Nat} {σ : MM} {a0 : Nat} {σf : MM} (hd : 135 ≤ d) (h : g_X3_stays F σ a0 = some σf) : xMA B yX3_stays cX3_stays 2 none d 0 0 [rv B a0] σ none σf := by
  refine xMA.of (by decide +kernel) (Nat.le_of_ble_eq_true rfl) (cat_rv cat_nil) (fun G C E => ?_)
  unfold g_X3_stays at h
  obtain ⟨-, h⟩ := r_ck h
  refine r_aload_n (pc := 0) (i := 0) C dX3_stays_0 rfl rfl ?_
  refine r_getP (pc := 1) C fd_X3_22 rfl dX3_stays_1 h (fun p1 h => ?_)
  refine r_aload_n (pc := 4) (i := 0) C dX3_stays_4 rfl rfl ?_
  refine r_getI (pc := 5) C fd_X3_29 rfl dX3_stays_5 h (fun v2 h => ?_)
  refine r_dup2 (pc := 8) C dX3_stays_8 ?_
  refine r_iald (pc := 9) C dX3_stays_9 h (fun v3 h => ?_)
  refine r_iconst (pc := 10) (v := 1) C dX3_stays_10 (by decide) ?_
  refine r_iadd (pc := 11) C dX3_stays_11 ?_
  refine r_iast (pc := 12) C dX3_stays_12 h (fun σ4 h => ?_)
  refine r_aload_n (pc := 13) (i := 0) C dX3_stays_13 rfl rfl ?_
  refine r_getI (pc := 14) C fd_X3_46 rfl dX3_stays_14 h (fun v5 h => ?_)
  refine r_bipush (pc := 17) (v := 6) C dX3_stays_17 (by decide) ?_
  refine r_bipush (pc := 19) (v := 19) C dX3_stays_19 (by decide) ?_
  refine r_callSI (pc := 21) (As := [.int v5, .int 6, .int 19]) (st := []) C cs_X3_117_X0_within h (fun _ _ e => w_X0_within (Nat.le_refl 0) e) (Nat.le_trans (Nat.le_of_ble_eq_true rfl) hd) (Nat.le_of_ble_eq_true rfl) dX3_stays_21 (fun v7 σ6 h => ?_)
  refine r_jn (fun k9 => ∀ (w9 : Int32) (σ8 : MM), k9 w9 σ8 = some σf → xV B G 0 0 σ8 42 [(0, rv B a0)] [.int w9]) h (fun w9 σ8 h => ?_) (fun k10 hk10 h => ?_)
  · refine r_istore_n (pc := 42) (i := 1) C dX3_stays_42 rfl (by decide) ?_
    refine r_iload_n (pc := 43) (i := 1) C dX3_stays_43 rfl rfl ?_
    refine r_iconst (pc := 44) (v := (-1)) C dX3_stays_44 (by decide) ?_
    refine r_icmpne (pc := 45) (tgt := 49) C dX3_stays_45 (by decide) h (fun h => ?_) (fun h => ?_)
    · refine r_aload_n (pc := 49) (i := 0) C dX3_stays_49 rfl rfl ?_
      refine r_iload_n (pc := 50) (i := 1) C dX3_stays_50 rfl rfl ?_
      refine r_putI (pc := 51) C fd_X3_33 ft_X3_5 dX3_stays_51 h (fun σ11 h => ?_)
      refine r_aload_n (pc := 54) (i := 0) C dX3_stays_54 rfl rfl ?_
      refine r_aload_n (pc := 55) (i := 0) C dX3_stays_55 rfl rfl ?_
      refine r_getI (pc := 56) C fd_X3_29 rfl dX3_stays_56 h (fun v12 h => ?_)
      refine r_putI (pc := 59) C fd_X3_40 ft_X3_4 dX3_stays_59 h (fun σ13 h => ?_)
      refine r_aload_n (pc := 62) (i := 0) C dX3_stays_62 rfl rfl ?_
      refine r_aload_n (pc := 63) (i := 0) C dX3_stays_63 rfl rfl ?_
      refine r_getP (pc := 64) C fd_X3_3 rfl dX3_stays_64 h (fun p14 h => ?_)
      refine r_aload_n (pc := 67) (i := 0) C dX3_stays_67 rfl rfl ?_
      refine r_getI (pc := 68) C fd_X3_29 rfl dX3_stays_68 h (fun v15 h => ?_)
      refine r_iload_n (pc := 71) (i := 1) C dX3_stays_71 rfl rfl ?_
      refine r_callVI (pc := 72) (As := [.int v15, .int w9]) (st := [rv B a0]) C cs_X3_124_X0_way h (fun _ _ e => w_X0_way (Nat.le_refl 1) e) (fun _ _ e => t_X0_way e) (Nat.le_trans (Nat.le_of_ble_eq_true rfl) hd) (Nat.le_of_ble_eq_true rfl) dX3_stays_72 (fun v17 σ16 h => ?_)
      refine r_putI (pc := 75) C fd_X3_43 ft_X3_6 dX3_stays_75 h (fun σ18 h => ?_)
      refine r_aload_n (pc := 78) (i := 0) C dX3_stays_78 rfl rfl ?_
      refine r_iconst (pc := 79) (v := (-1)) C dX3_stays_79 (by decide) ?_
      refine r_putI (pc := 80) C fd_X3_29 ft_X3_3 dX3_stays_80 h (fun σ19 h => ?_)
      exact r_vret (pc := 83) C rfl dX3_stays_83 h E
    · exact r_vret (pc := 48) C rfl dX3_stays_48 h E
  · refine r_ifeq (pc := 24) (tgt := 41) C dX3_stays_24 (by decide) h (fun h => ?_) (fun h => ?_)
    · refine r_iconst (pc := 41) (v := (-1)) C dX3_stays_41 (by decide) ?_
      refine r_pick (lv' := [(0, rv B a0)]) [0] rfl ?_
      exact hk10 _ _ h
    · refine r_aload_n (pc := 27) (i := 0) C dX3_stays_27 rfl rfl ?_
      refine r_getI (pc := 28) C fd_X3_58 rfl dX3_stays_28 h (fun v20 h => ?_)
      refine r_ifne (pc := 31) (tgt := 41) C dX3_stays_31 (by decide) h (fun h => ?_) (fun h => ?_)
      · refine r_iconst (pc := 41) (v := (-1)) C dX3_stays_41 (by decide) ?_
        refine r_pick (lv' := [(0, rv B a0)]) [0] rfl ?_
        exact hk10 _ _ h
      · refine r_aload_n (pc := 34) (i := 0) C dX3_stays_34 rfl rfl ?_
        refine r_callVI (pc := 35) (As := []) (st := []) C cs_X3_121_X3_nextPaid h (fun _ _ e => w_X3_nextPaid (Nat.le_refl 134) e) (fun _ _ e => t_X3_nextPaid e) (Nat.le_trans (Nat.le_of_ble_eq_true rfl) hd) (Nat.le_of_ble_eq_true rfl) dX3_stays_35 (fun v22 σ21 h => ?_)
        refine r_goto (pc := 38) (tgt := 42) C dX3_stays_38 (by decide) ?_
        refine r_pick (lv' := [(0, rv B a0)]) [0] rfl ?_
        exact hk10 _ _ h
theorem t_X3_stays {F : Nat} {σ : MM} {a0 : Nat} {r : MM} (h : g_X3_stays F σ a0 = some r) : mT σ a0 = (2, 16) := by
  unfold g_X3_stays at h
  exact (r_ck h).1
theorem yd_X3_stays : xYd yX3_stays 0 := ⟨by decide +kernel, by decide +kernel, by decide +kernel⟩
theorem cs_X3_133_X3_stays : xCV RX3 133 yX3_stays cX3_stays 2 none 2 16 0 := ⟨by decide, by decide, _, rfl, yd_X3_stays, Or.inl ⟨rfl, lw_V q1030 q1032 qs27 q119 q1033⟩⟩
theorem yd_X3_arrives : xYd yX3_arrives 0 := ⟨by decide +kernel, by decide +kernel, by decide +kernel⟩
theorem cs_X3_130_X3_arrives : xCV RX3 130 yX3_arrives cX3_arrives 1 none 2 16 0 := ⟨by decide, by decide, _, rfl, yd_X3_arrives, Or.inl ⟨rfl, lw_V q1025 q1027 qs26 q119 q1028⟩⟩
theorem yd_X3_dayBegins : xYd yX3_dayBegins 0 := ⟨by decide +kernel, by decide +kernel, by decide +kernel⟩
theorem cs_X3_127_X3_dayBegins : xCV RX3 127 yX3_dayBegins cX3_dayBegins 4 none 2 16 0 := ⟨by decide, by decide, _, rfl, yd_X3_dayBegins, Or.inl ⟨rfl, lw_V q940 q942 qs24 q119 q943⟩⟩
def g_X3_hourGoes (F : Nat) (σ : MM) (a0 : Nat) : Option (Int32 × MM) := if mT σ a0 = (2, 16) then ((gI σ a0 2 16 7).bind fun v1 => jn (fun (σ2 : MM) => (gI σ2 a0 2 16 5).bind fun v4 => jn (fun (y1_6 : Int32) (σ5 : MM) => (gI σ5 a0 2 16 7).bind fun v8 => (pI σ5 a0 2 16 7 ((v8 + 1))).bind fun σ9 => (gI σ9 a0 2 16 7).bind fun v10 => if v10 = 24 then ((pI σ9 a0 2 16 7 0).bind fun σ11 => (gI σ11 a0 2 16 8).bind fun v12 => (pI σ11 a0 2 16 8 ((v12 + 1))).bind fun σ13 => some (y1_6, σ13)) else (some (y1_6, σ9))) (fun k7 => if v4 = (-1) then ((gI σ2 a0 2 16 3).bind fun v14 => if v14 = (-1) then (k7 ((-1)) σ2) else ((g_X3_stays F σ2 a0).bind fun σ15 => k7 ((-1)) σ15)) else ((gI σ2 a0 2 16 6).bind fun v16 => (pI σ2 a0 2 16 6 ((v16 - 1))).bind fun σ17 => (gI σ17 a0 2 16 6).bind fun v18 => if v18 = 0 then ((gI σ17 a0 2 16 5).bind fun v19 => (g_X3_arrives F σ17 a0).bind fun σ20 => k7 v19 σ20) else (k7 ((-1)) σ17)))) (fun k3 => if v1 = 0 then ((g_X3_dayBegins F σ a0).bind fun σ21 => k3 σ21) else (k3 σ))) else none
theorem w_X3_hourGoes {B F : Nat} {d : Nat} {σ : MM} {a0 : Nat} {rf : Int32} {σf : MM} (hd : 136 ≤ d) (h : g_X3_hourGoes F σ a0 = some (rf, σf)) : xMA B yX3_hourGoes cX3_hourGoes 2 (some .int) d 0 0 [rv B a0] σ (some (.int rf)) σf := by
  refine xMA.of (by decide +kernel) (Nat.le_of_ble_eq_true rfl) (cat_rv cat_nil) (fun G C E => ?_)
  unfold g_X3_hourGoes at h
  obtain ⟨-, h⟩ := r_ck h
  refine r_aload_n (pc := 0) (i := 0) C dX3_hourGoes_0 rfl rfl ?_
  refine r_getI (pc := 1) C fd_X3_46 rfl dX3_hourGoes_1 h (fun v1 h => ?_)
  refine r_jn (fun k9 => ∀  (σ2 : MM), k9 σ2 = some (rf, σf) → xV B G 0 0 σ2 11 [(0, rv B a0)] []) h (fun  σ2 h => ?_) (fun k3 hk3 h => ?_)
  · refine r_iconst (pc := 11) (v := (-1)) C dX3_hourGoes_11 (by decide) ?_
    refine r_istore_n (pc := 12) (i := 1) C dX3_hourGoes_12 rfl (by decide) ?_
    refine r_aload_n (pc := 13) (i := 0) C dX3_hourGoes_13 rfl rfl ?_
    refine r_getI (pc := 14) C fd_X3_33 rfl dX3_hourGoes_14 h (fun v4 h => ?_)
    refine r_iconst (pc := 17) (v := (-1)) C dX3_hourGoes_17 (by decide) ?_
    refine r_jn (fun k9 => ∀ (y1_6 : Int32) (σ5 : MM), k9 y1_6 σ5 = some (rf, σf) → xV B G 0 0 σ5 62 [(0, rv B a0), (1, .int y1_6)] []) h (fun y1_6 σ5 h => ?_) (fun k7 hk7 h => ?_)
    · refine r_aload_n (pc := 62) (i := 0) C dX3_hourGoes_62 rfl rfl ?_
      refine r_dup (pc := 63) C dX3_hourGoes_63 ?_
      refine r_getI (pc := 64) C fd_X3_46 rfl dX3_hourGoes_64 h (fun v8 h => ?_)
      refine r_iconst (pc := 67) (v := 1) C dX3_hourGoes_67 (by decide) ?_
      refine r_iadd (pc := 68) C dX3_hourGoes_68 ?_
      refine r_putI (pc := 69) C fd_X3_46 ft_X3_7 dX3_hourGoes_69 h (fun σ9 h => ?_)
      refine r_aload_n (pc := 72) (i := 0) C dX3_hourGoes_72 rfl rfl ?_
      refine r_getI (pc := 73) C fd_X3_46 rfl dX3_hourGoes_73 h (fun v10 h => ?_)
      refine r_bipush (pc := 76) (v := 24) C dX3_hourGoes_76 (by decide) ?_
      refine r_icmpne (pc := 78) (tgt := 96) C dX3_hourGoes_78 (by decide) h (fun h => ?_) (fun h => ?_)
      · refine r_iload_n (pc := 96) (i := 1) C dX3_hourGoes_96 rfl rfl ?_
        exact r_iret (pc := 97) C rfl dX3_hourGoes_97 h E
      · refine r_aload_n (pc := 81) (i := 0) C dX3_hourGoes_81 rfl rfl ?_
        refine r_iconst (pc := 82) (v := 0) C dX3_hourGoes_82 (by decide) ?_
        refine r_putI (pc := 83) C fd_X3_46 ft_X3_7 dX3_hourGoes_83 h (fun σ11 h => ?_)
        refine r_aload_n (pc := 86) (i := 0) C dX3_hourGoes_86 rfl rfl ?_
        refine r_dup (pc := 87) C dX3_hourGoes_87 ?_
        refine r_getI (pc := 88) C fd_X3_49 rfl dX3_hourGoes_88 h (fun v12 h => ?_)
        refine r_iconst (pc := 91) (v := 1) C dX3_hourGoes_91 (by decide) ?_
        refine r_iadd (pc := 92) C dX3_hourGoes_92 ?_
        refine r_putI (pc := 93) C fd_X3_49 ft_X3_8 dX3_hourGoes_93 h (fun σ13 h => ?_)
        refine r_iload_n (pc := 96) (i := 1) C dX3_hourGoes_96 rfl rfl ?_
        exact r_iret (pc := 97) C rfl dX3_hourGoes_97 h E
    · refine r_icmpeq (pc := 18) (tgt := 50) C dX3_hourGoes_18 (by decide) h (fun h => ?_) (fun h => ?_)
      · refine r_aload_n (pc := 50) (i := 0) C dX3_hourGoes_50 rfl rfl ?_
        refine r_getI (pc := 51) C fd_X3_29 rfl dX3_hourGoes_51 h (fun v14 h => ?_)
        refine r_iconst (pc := 54) (v := (-1)) C dX3_hourGoes_54 (by decide) ?_
        refine r_icmpeq (pc := 55) (tgt := 62) C dX3_hourGoes_55 (by decide) h (fun h => ?_) (fun h => ?_)
        · refine r_pick (lv' := [(0, rv B a0), (1, .int (-1))]) [0, 1] rfl ?_
          exact hk7 _ _ h
        · refine r_aload_n (pc := 58) (i := 0) C dX3_hourGoes_58 rfl rfl ?_
          refine r_callVV (pc := 59) (As := []) (st := []) C cs_X3_133_X3_stays h (fun _ e => w_X3_stays (Nat.le_refl 135) e) (fun _ e => t_X3_stays e) (Nat.le_trans (Nat.le_of_ble_eq_true rfl) hd) (Nat.le_of_ble_eq_true rfl) dX3_hourGoes_59 (fun σ15 h => ?_)
          refine r_pick (lv' := [(0, rv B a0), (1, .int (-1))]) [0, 1] rfl ?_
          exact hk7 _ _ h
      · refine r_aload_n (pc := 21) (i := 0) C dX3_hourGoes_21 rfl rfl ?_
        refine r_dup (pc := 22) C dX3_hourGoes_22 ?_
        refine r_getI (pc := 23) C fd_X3_43 rfl dX3_hourGoes_23 h (fun v16 h => ?_)
        refine r_iconst (pc := 26) (v := 1) C dX3_hourGoes_26 (by decide) ?_
        refine r_isub (pc := 27) C dX3_hourGoes_27 ?_
        refine r_putI (pc := 28) C fd_X3_43 ft_X3_6 dX3_hourGoes_28 h (fun σ17 h => ?_)
        refine r_aload_n (pc := 31) (i := 0) C dX3_hourGoes_31 rfl rfl ?_
        refine r_getI (pc := 32) C fd_X3_43 rfl dX3_hourGoes_32 h (fun v18 h => ?_)
        refine r_ifne (pc := 35) (tgt := 62) C dX3_hourGoes_35 (by decide) h (fun h => ?_) (fun h => ?_)
        · refine r_pick (lv' := [(0, rv B a0), (1, .int (-1))]) [0, 1] rfl ?_
          exact hk7 _ _ h
        · refine r_aload_n (pc := 38) (i := 0) C dX3_hourGoes_38 rfl rfl ?_
          refine r_getI (pc := 39) C fd_X3_33 rfl dX3_hourGoes_39 h (fun v19 h => ?_)
          refine r_istore_n (pc := 42) (i := 1) C dX3_hourGoes_42 rfl (by decide) ?_
          refine r_aload_n (pc := 43) (i := 0) C dX3_hourGoes_43 rfl rfl ?_
          refine r_callVV (pc := 44) (As := []) (st := []) C cs_X3_130_X3_arrives h (fun _ e => w_X3_arrives (Nat.le_refl 1) e) (fun _ e => t_X3_arrives e) (Nat.le_trans (Nat.le_of_ble_eq_true rfl) hd) (Nat.le_of_ble_eq_true rfl) dX3_hourGoes_44 (fun σ20 h => ?_)
          refine r_goto (pc := 47) (tgt := 62) C dX3_hourGoes_47 (by decide) ?_
          refine r_pick (lv' := [(0, rv B a0), (1, .int v19)]) [0, 1] rfl ?_
          exact hk7 _ _ h
  · refine r_ifne (pc := 4) (tgt := 11) C dX3_hourGoes_4 (by decide) h (fun h => ?_) (fun h => ?_)
    · refine r_pick (lv' := [(0, rv B a0)]) [0] rfl ?_
      exact hk3 _ h
    · refine r_aload_n (pc := 7) (i := 0) C dX3_hourGoes_7 rfl rfl ?_
      refine r_callVV (pc := 8) (As := []) (st := []) C cs_X3_127_X3_dayBegins h (fun _ e => w_X3_dayBegins (Nat.le_refl 133) e) (fun _ e => t_X3_dayBegins e) (Nat.le_trans (Nat.le_of_ble_eq_true rfl) hd) (Nat.le_of_ble_eq_true rfl) dX3_hourGoes_8 (fun σ21 h => ?_)
      refine r_pick (lv' := [(0, rv B a0)]) [0] rfl ?_
      exact hk3 _ h
theorem t_X3_hourGoes {F : Nat} {σ : MM} {a0 : Nat} {r : Int32 × MM} (h : g_X3_hourGoes F σ a0 = some r) : mT σ a0 = (2, 16) := by
  unfold g_X3_hourGoes at h
  exact (r_ck h).1
theorem yd_X3_begins : xYd yX3_begins 0 := ⟨by decide +kernel, by decide +kernel, by decide +kernel⟩
theorem cs_X3_136_X3_begins : xCV RX3 136 yX3_begins cX3_begins 1 (some (.object "OneCoin$Duchy")) 2 16 0 := ⟨by decide, by decide, _, rfl, yd_X3_begins, Or.inl ⟨rfl, lw_V q928 q929 q930 q119 q931⟩⟩
theorem yd_X3_canGo : xYd yX3_canGo 0 := ⟨by decide +kernel, by decide +kernel, by decide +kernel⟩
theorem cs_X3_140_X3_canGo : xCV RX3 140 yX3_canGo cX3_canGo 1 (some .boolean) 2 16 0 := ⟨by decide, by decide, _, rfl, yd_X3_canGo, Or.inl ⟨rfl, lw_V q932 q933 q934 q119 q935⟩⟩
theorem yd_X3_hourGoes : xYd yX3_hourGoes 0 := ⟨by decide +kernel, by decide +kernel, by decide +kernel⟩
theorem cs_X3_144_X3_hourGoes : xCV RX3 144 yX3_hourGoes cX3_hourGoes 2 (some .int) 2 16 0 := ⟨by decide, by decide, _, rfl, yd_X3_hourGoes, Or.inl ⟨rfl, lw_V q936 q937 q938 q119 q939⟩⟩
def l_X3_goes_7 (K : MM → Option (Nat × MM)) (F : Nat) (a0 : Nat) (x1 : Int32) : Nat → Int32 → MM → Option (Nat × MM)
  | 0, _, _ => none
  | f + 1, z2, σ => if z2 < x1 then (bq (g_X3_canGo F σ a0) fun v4 σ3 => if v4 = 0 then (K σ3) else (bq (g_X3_hourGoes F σ3 a0) fun v6 σ5 => l_X3_goes_7 K F a0 x1 f ((z2 + 1)) σ5)) else (K σ)
def g_X3_goes (F : Nat) (σ : MM) (a0 : Nat) (x1 : Int32) : Option (Nat × MM) := if mT σ a0 = (2, 16) then (bq (g_X3_begins F σ a0) fun p2 σ1 => l_X3_goes_7 (fun (σ7 : MM) => some (a0, σ7)) F a0 x1 F 0 σ1) else none
theorem wl_X3_goes_7 {B : Nat} {G : XG} {d : Nat} {rf : Nat} {σf : MM} (hd : 137 ≤ d) (C : xC B G yX3_goes cX3_goes 4 (some (.object "OneCoin$Duchy")) d 0 0) (E : xEnd B G (some (rv B rf)) σf 0 0) {K : MM → Option (Nat × MM)} {F : Nat} {a0 : Nat} {x1 : Int32} (hK : ∀ (σ : MM), K σ = some (rf, σf) → xV B G 0 0 σ 30 [(0, rv B a0)] []) : ∀ (f : Nat) (z2 : Int32) (σ : MM), l_X3_goes_7 K F a0 x1 f z2 σ = some (rf, σf) → xV B G 0 0 σ 7 [(0, rv B a0), (1, .int x1), (2, .int z2)] [] := by
  intro f
  induction f with
  | zero =>
    intro z2 σ h
    have h : none = some (rf, σf) := h
    cases h
  | succ f ih =>
    intro z2 σ h
    rw [l_X3_goes_7.eq_2] at h
    refine r_iload_n (pc := 7) (i := 2) C dX3_goes_7 rfl rfl ?_
    refine r_iload_n (pc := 8) (i := 1) C dX3_goes_8 rfl rfl ?_
    refine r_icmpge (pc := 9) (tgt := 30) C dX3_goes_9 (by decide) h (fun h => ?_) (fun h => ?_)
    · refine r_pick (lv' := [(0, rv B a0)]) [0] rfl ?_
      exact hK _ h
    · refine r_aload_n (pc := 12) (i := 0) C dX3_goes_12 rfl rfl ?_
      refine r_callVI (pc := 13) (As := []) (st := []) C cs_X3_140_X3_canGo h (fun _ _ e => w_X3_canGo (Nat.le_refl 0) e) (fun _ _ e => t_X3_canGo e) (Nat.le_trans (Nat.le_of_ble_eq_true rfl) hd) (Nat.le_of_ble_eq_true rfl) dX3_goes_13 (fun v4 σ3 h => ?_)
      refine r_ifeq (pc := 16) (tgt := 30) C dX3_goes_16 (by decide) h (fun h => ?_) (fun h => ?_)
      · refine r_pick (lv' := [(0, rv B a0)]) [0] rfl ?_
        exact hK _ h
      · refine r_aload_n (pc := 19) (i := 0) C dX3_goes_19 rfl rfl ?_
        refine r_callVI (pc := 20) (As := []) (st := []) C cs_X3_144_X3_hourGoes h (fun _ _ e => w_X3_hourGoes (Nat.le_refl 136) e) (fun _ _ e => t_X3_hourGoes e) (Nat.le_trans (Nat.le_of_ble_eq_true rfl) hd) (Nat.le_of_ble_eq_true rfl) dX3_goes_20 (fun v6 σ5 h => ?_)
        refine r_istore_n (pc := 23) (i := 3) C dX3_goes_23 rfl (by decide) ?_
        refine r_iinc (pc := 24) (i := 2) (v := (z2 + 1)) C dX3_goes_24 rfl rfl (by decide) ?_
        refine r_goto (pc := 27) (tgt := 7) C dX3_goes_27 (by decide) ?_
        refine r_pick (lv' := [(0, rv B a0), (1, .int x1), (2, .int (z2 + 1))]) [0, 1, 2] rfl ?_
        exact ih _ _ h
theorem w_X3_goes {B F : Nat} {d : Nat} {σ : MM} {a0 : Nat} {x1 : Int32} {rf : Nat} {σf : MM} (hd : 137 ≤ d) (h : g_X3_goes F σ a0 x1 = some (rf, σf)) : xMA B yX3_goes cX3_goes 4 (some (.object "OneCoin$Duchy")) d 0 0 [rv B a0, .int x1] σ (some (rv B rf)) σf := by
  refine xMA.of (by decide +kernel) (Nat.le_of_ble_eq_true rfl) (cat_rv (cat_int cat_nil)) (fun G C E => ?_)
  unfold g_X3_goes at h
  obtain ⟨-, h⟩ := r_ck h
  refine r_aload_n (pc := 0) (i := 0) C dX3_goes_0 rfl rfl ?_
  refine r_callVP (pc := 1) (As := []) (st := []) C cs_X3_136_X3_begins h (fun _ _ e => w_X3_begins (Nat.le_refl 0) e) (fun _ _ e => t_X3_begins e) (Nat.le_trans (Nat.le_of_ble_eq_true rfl) hd) (Nat.le_of_ble_eq_true rfl) dX3_goes_1 (fun p2 σ1 h => ?_)
  refine r_pop (pc := 4) C dX3_goes_4 ?_
  refine r_iconst (pc := 5) (v := 0) C dX3_goes_5 (by decide) ?_
  refine r_istore_n (pc := 6) (i := 2) C dX3_goes_6 rfl (by decide) ?_
  refine r_pick (lv' := [(0, rv B a0), (1, .int x1), (2, .int 0)]) [0, 1, 2] rfl ?_
  refine wl_X3_goes_7 hd C E (fun  σ7 h => ?_) _ _ _ h
  refine r_aload_n (pc := 30) (i := 0) C dX3_goes_30 rfl rfl ?_
  exact r_aret (pc := 31) C rfl dX3_goes_31 h E
theorem t_X3_goes {F : Nat} {σ : MM} {a0 : Nat} {x1 : Int32} {r : Nat × MM} (h : g_X3_goes F σ a0 x1 = some r) : mT σ a0 = (2, 16) := by
  unfold g_X3_goes at h
  exact (r_ck h).1
def g_X3_chalkAt (F : Nat) (σ : MM) (a0 : Nat) (x1 : Int32) : Option (Int32 × MM) := if mT σ a0 = (2, 16) then ((gP σ a0 2 16 2).bind fun p1 => (gI σ a0 2 16 10).bind fun v2 => bq (g_X3_rows F σ a0) fun v4 σ3 => (rm_ (((v2 - v4) + x1)) 40).bind fun v5 => (aI σ3 p1 20 v5).bind fun v6 => some (v6, σ3)) else none
theorem w_X3_chalkAt {B F : Nat} {d : Nat} {σ : MM} {a0 : Nat} {x1 : Int32} {rf : Int32} {σf : MM} (hd : 2 ≤ d) (h : g_X3_chalkAt F σ a0 x1 = some (rf, σf)) : xMA B yX3_chalkAt cX3_chalkAt 2 (some .int) d 0 0 [rv B a0, .int x1] σ (some (.int rf)) σf := by
  refine xMA.of (by decide +kernel) (Nat.le_of_ble_eq_true rfl) (cat_rv (cat_int cat_nil)) (fun G C E => ?_)
  unfold g_X3_chalkAt at h
  obtain ⟨-, h⟩ := r_ck h
  refine r_aload_n (pc := 0) (i := 0) C dX3_chalkAt_0 rfl rfl ?_
  refine r_getP (pc := 1) C fd_X3_26 rfl dX3_chalkAt_1 h (fun p1 h => ?_)
  refine r_aload_n (pc := 4) (i := 0) C dX3_chalkAt_4 rfl rfl ?_
  refine r_getI (pc := 5) C fd_X3_55 rfl dX3_chalkAt_5 h (fun v2 h => ?_)
  refine r_aload_n (pc := 8) (i := 0) C dX3_chalkAt_8 rfl rfl ?_
  refine r_callVI (pc := 9) (As := []) (st := [.int v2, rv B p1]) C cs_X3_68_X3_rows h (fun _ _ e => w_X3_rows (Nat.le_refl 1) e) (fun _ _ e => t_X3_rows e) (Nat.le_trans (Nat.le_of_ble_eq_true rfl) hd) (Nat.le_of_ble_eq_true rfl) dX3_chalkAt_9 (fun v4 σ3 h => ?_)
  refine r_isub (pc := 12) C dX3_chalkAt_12 ?_
  refine r_iload_n (pc := 13) (i := 1) C dX3_chalkAt_13 rfl rfl ?_
  refine r_iadd (pc := 14) C dX3_chalkAt_14 ?_
  refine r_bipush (pc := 15) (v := 40) C dX3_chalkAt_15 (by decide) ?_
  refine r_irem (pc := 17) C dX3_chalkAt_17 h (fun v5 h => ?_)
  refine r_iald (pc := 18) C dX3_chalkAt_18 h (fun v6 h => ?_)
  exact r_iret (pc := 19) C rfl dX3_chalkAt_19 h E
theorem t_X3_chalkAt {F : Nat} {σ : MM} {a0 : Nat} {x1 : Int32} {r : Int32 × MM} (h : g_X3_chalkAt F σ a0 x1 = some r) : mT σ a0 = (2, 16) := by
  unfold g_X3_chalkAt at h
  exact (r_ck h).1
