set_option maxRecDepth 100000
theorem fd_X6_457 : xFg RX6 457 5 62 61 := ⟨_, rfl, rfl, by decide, by decide, in_X6, Or.inl q1326⟩
theorem ft_X6_61 : xFt 5 61 .boolean false := ⟨_, rfl, by decide +kernel, rfl, rfl⟩
theorem fd_X6_16 : xFg RX6 16 5 62 2 := ⟨_, rfl, rfl, by decide, by decide, in_X6, Or.inl q1267⟩
theorem ft_X6_2 : xFt 5 2 (.array .int) true := ⟨_, rfl, by decide +kernel, rfl, rfl⟩
def g_X6_keep (F : Nat) (σ : MM) (a0 : Nat) : Option (Int32 × MM) := if mT σ a0 = (5, 62) then ((pZ σ a0 5 62 61 1).bind fun σ1 => (gP σ1 a0 5 62 0).bind fun p2 => (gP σ1 a0 5 62 2).bind fun p3 => (g_X6_copies F σ1 p2 p3).bind fun σ4 => bq (g_X6_owedInAll F σ4 a0) fun v6 σ5 => some (v6, σ5)) else none
theorem w_X6_keep {B F : Nat} {d : Nat} {σ : MM} {a0 : Nat} {rf : Int32} {σf : MM} (hd : 3 ≤ d) (h : g_X6_keep F σ a0 = some (rf, σf)) : xMA B yX6_keep cX6_keep 1 (some .int) d 0 0 [rv B a0] σ (some (.int rf)) σf := by
  refine xMA.of (by decide +kernel) (Nat.le_of_ble_eq_true rfl) (cat_rv cat_nil) (fun G C E => ?_)
  unfold g_X6_keep at h
  obtain ⟨-, h⟩ := r_ck h
  refine r_aload_n (pc := 0) (i := 0) C dX6_keep_0 rfl rfl ?_
  refine r_iconst (pc := 1) (v := 1) C dX6_keep_1 (by decide) ?_
  refine r_putZ (pc := 2) C fd_X6_457 ft_X6_61 dX6_keep_2 h (fun σ1 h => ?_)
  refine r_aload_n (pc := 5) (i := 0) C dX6_keep_5 rfl rfl ?_
  refine r_getP (pc := 6) C fd_X6_7 rfl dX6_keep_6 h (fun p2 h => ?_)
  refine r_aload_n (pc := 9) (i := 0) C dX6_keep_9 rfl rfl ?_
  refine r_getP (pc := 10) C fd_X6_16 rfl dX6_keep_10 h (fun p3 h => ?_)
  refine r_callSV (pc := 13) (As := [rv B p2, rv B p3]) (st := []) C cs_X6_345_X6_copies h (fun _ e => w_X6_copies (Nat.le_refl 0) e) (Nat.le_trans (Nat.le_of_ble_eq_true rfl) hd) (Nat.le_of_ble_eq_true rfl) dX6_keep_13 (fun σ4 h => ?_)
  refine r_aload_n (pc := 16) (i := 0) C dX6_keep_16 rfl rfl ?_
  refine r_callVI (pc := 17) (As := []) (st := []) C cs_X6_296_X6_owedInAll h (fun _ _ e => w_X6_owedInAll (Nat.le_refl 2) e) (fun _ _ e => t_X6_owedInAll e) (Nat.le_trans (Nat.le_of_ble_eq_true rfl) hd) (Nat.le_of_ble_eq_true rfl) dX6_keep_17 (fun v6 σ5 h => ?_)
  exact r_iret (pc := 20) C rfl dX6_keep_20 h E
theorem t_X6_keep {F : Nat} {σ : MM} {a0 : Nat} {r : Int32 × MM} (h : g_X6_keep F σ a0 = some r) : mT σ a0 = (5, 62) := by
  unfold g_X6_keep at h
  exact (r_ck h).1
def g_X6_undo (F : Nat) (σ : MM) (a0 : Nat) : Option (Int32 × MM) := if mT σ a0 = (5, 62) then ((gI σ a0 5 62 61).bind fun v1 => if v1 = 0 then (some (0, σ)) else ((gP σ a0 5 62 2).bind fun p2 => (gP σ a0 5 62 0).bind fun p3 => (g_X6_copies F σ p2 p3).bind fun σ4 => some (1, σ4))) else none
theorem w_X6_undo {B F : Nat} {d : Nat} {σ : MM} {a0 : Nat} {rf : Int32} {σf : MM} (hd : 1 ≤ d) (h : g_X6_undo F σ a0 = some (rf, σf)) : xMA B yX6_undo cX6_undo 1 (some .boolean) d 0 0 [rv B a0] σ (some (.int rf)) σf := by
  refine xMA.of (by decide +kernel) (Nat.le_of_ble_eq_true rfl) (cat_rv cat_nil) (fun G C E => ?_)
  unfold g_X6_undo at h
  obtain ⟨-, h⟩ := r_ck h
  refine r_aload_n (pc := 0) (i := 0) C dX6_undo_0 rfl rfl ?_
  refine r_getI (pc := 1) C fd_X6_457 rfl dX6_undo_1 h (fun v1 h => ?_)
  refine r_ifne (pc := 4) (tgt := 9) C dX6_undo_4 (by decide) h (fun h => ?_) (fun h => ?_)
  · refine r_aload_n (pc := 9) (i := 0) C dX6_undo_9 rfl rfl ?_
    refine r_getP (pc := 10) C fd_X6_16 rfl dX6_undo_10 h (fun p2 h => ?_)
    refine r_aload_n (pc := 13) (i := 0) C dX6_undo_13 rfl rfl ?_
    refine r_getP (pc := 14) C fd_X6_7 rfl dX6_undo_14 h (fun p3 h => ?_)
    refine r_callSV (pc := 17) (As := [rv B p2, rv B p3]) (st := []) C cs_X6_345_X6_copies h (fun _ e => w_X6_copies (Nat.le_refl 0) e) (Nat.le_trans (Nat.le_of_ble_eq_true rfl) hd) (Nat.le_of_ble_eq_true rfl) dX6_undo_17 (fun σ4 h => ?_)
    refine r_iconst (pc := 20) (v := 1) C dX6_undo_20 (by decide) ?_
    exact r_zretL (pc := 21) C rfl dX6_undo_21 (Or.inr rfl) h E
  · refine r_iconst (pc := 7) (v := 0) C dX6_undo_7 (by decide) ?_
    exact r_zretL (pc := 8) C rfl dX6_undo_8 (Or.inl rfl) h E
theorem t_X6_undo {F : Nat} {σ : MM} {a0 : Nat} {r : Int32 × MM} (h : g_X6_undo F σ a0 = some r) : mT σ a0 = (5, 62) := by
  unfold g_X6_undo at h
  exact (r_ck h).1
def l_X6_check_28 (K : MM → Option (Int32 × MM)) (F : Nat) (a0 : Nat) (x1 : Int32) : Nat → Int32 → MM → Option (Int32 × MM)
  | 0, _, _ => none
  | f + 1, z2, σ => if z2 < x1 then ((gP σ a0 5 62 6).bind fun p5 => (aI σ p5 21 z2).bind fun v6 => bq (g_X6_isPerson F σ a0 z2) fun v8 σ7 => jn (fun (w10 : Int32) (σ9 : MM) => if (v6 &&& 255) = w10 then (l_X6_check_28 K F a0 x1 f ((z2 + 1)) σ9) else (some (z2, σ9))) (fun k11 => if v8 = 0 then (k11 0 σ7) else (bq (g_X6_owesAll F σ7 a0 z2) fun v13 σ12 => bq (g_X6_min F σ12 255 v13) fun v15 σ14 => k11 v15 σ14))) else (K σ)
def g_X6_check (F : Nat) (σ : MM) (a0 : Nat) (x1 : Int32) : Option (Int32 × MM) := if mT σ a0 = (5, 62) then (bq (g_X6_in F σ x1 0 10) fun v2 σ1 => if v2 = 0 then (some ((-2), σ1)) else ((gI σ1 a0 5 62 7).bind fun v3 => if v3 < x1 then (some ((-2), σ1)) else ((pI σ1 a0 5 62 7 0).bind fun σ4 => l_X6_check_28 (fun (σ16 : MM) => some ((-1), σ16)) F a0 x1 F 0 σ4))) else none
theorem wl_X6_check_28 {B : Nat} {G : XG} {d : Nat} {rf : Int32} {σf : MM} (hd : 2 ≤ d) (C : xC B G yX6_check cX6_check 3 (some .int) d 0 0) (E : xEnd B G (some (.int rf)) σf 0 0) {K : MM → Option (Int32 × MM)} {F : Nat} {a0 : Nat} {x1 : Int32} (hK : ∀ (σ : MM), K σ = some (rf, σf) → xV B G 0 0 σ 77 [] []) : ∀ (f : Nat) (z2 : Int32) (σ : MM), l_X6_check_28 K F a0 x1 f z2 σ = some (rf, σf) → xV B G 0 0 σ 28 [(0, rv B a0), (1, .int x1), (2, .int z2)] [] := by
  intro f
  induction f with
  | zero =>
    intro z2 σ h
    have h : none = some (rf, σf) := h
    cases h
  | succ f ih =>
    intro z2 σ h
    rw [l_X6_check_28.eq_2] at h
    refine r_iload_n (pc := 28) (i := 2) C dX6_check_28 rfl rfl ?_
    refine r_iload_n (pc := 29) (i := 1) C dX6_check_29 rfl rfl ?_
    refine r_icmpge (pc := 30) (tgt := 77) C dX6_check_30 (by decide) h (fun h => ?_) (fun h => ?_)
    · refine r_pick (lv' := []) [] rfl ?_
      exact hK _ h
    · refine r_aload_n (pc := 33) (i := 0) C dX6_check_33 rfl rfl ?_
      refine r_getP (pc := 34) C fd_X6_25 rfl dX6_check_34 h (fun p5 h => ?_)
      refine r_iload_n (pc := 37) (i := 2) C dX6_check_37 rfl rfl ?_
      refine r_bald (pc := 38) C dX6_check_38 h (fun v6 h => ?_)
      refine r_sipush (pc := 39) (v := 255) C dX6_check_39 (by decide) ?_
      refine r_iand (pc := 42) C dX6_check_42 ?_
      refine r_aload_n (pc := 43) (i := 0) C dX6_check_43 rfl rfl ?_
      refine r_iload_n (pc := 44) (i := 2) C dX6_check_44 rfl rfl ?_
      refine r_callVI (pc := 45) (As := [.int z2]) (st := [.int (v6 &&& 255)]) C cs_X6_135_X6_isPerson h (fun _ _ e => w_X6_isPerson (Nat.le_refl 1) e) (fun _ _ e => t_X6_isPerson e) (Nat.le_trans (Nat.le_of_ble_eq_true rfl) hd) (Nat.le_of_ble_eq_true rfl) dX6_check_45 (fun v8 σ7 h => ?_)
      refine r_jn (fun k9 => ∀ (w10 : Int32) (σ9 : MM), k9 w10 σ9 = some (rf, σf) → xV B G 0 0 σ9 66 [(0, rv B a0), (1, .int x1), (2, .int z2)] [.int w10, .int (v6 &&& 255)]) h (fun w10 σ9 h => ?_) (fun k11 hk11 h => ?_)
      · refine r_icmpeq (pc := 66) (tgt := 71) C dX6_check_66 (by decide) h (fun h => ?_) (fun h => ?_)
        · refine r_iinc (pc := 71) (i := 2) (v := (z2 + 1)) C dX6_check_71 rfl rfl (by decide) ?_
          refine r_goto (pc := 74) (tgt := 28) C dX6_check_74 (by decide) ?_
          refine r_pick (lv' := [(0, rv B a0), (1, .int x1), (2, .int (z2 + 1))]) [0, 1, 2] rfl ?_
          exact ih _ _ h
        · refine r_iload_n (pc := 69) (i := 2) C dX6_check_69 rfl rfl ?_
          exact r_iret (pc := 70) C rfl dX6_check_70 h E
      · refine r_ifeq (pc := 48) (tgt := 65) C dX6_check_48 (by decide) h (fun h => ?_) (fun h => ?_)
        · refine r_iconst (pc := 65) (v := 0) C dX6_check_65 (by decide) ?_
          refine r_pick (lv' := [(0, rv B a0), (1, .int x1), (2, .int z2)]) [0, 1, 2] rfl ?_
          exact hk11 _ _ h
        · refine r_sipush (pc := 51) (v := 255) C dX6_check_51 (by decide) ?_
          refine r_aload_n (pc := 54) (i := 0) C dX6_check_54 rfl rfl ?_
          refine r_iload_n (pc := 55) (i := 2) C dX6_check_55 rfl rfl ?_
          refine r_callVI (pc := 56) (As := [.int z2]) (st := [.int 255, .int (v6 &&& 255)]) C cs_X6_150_X6_owesAll h (fun _ _ e => w_X6_owesAll (Nat.le_refl 1) e) (fun _ _ e => t_X6_owesAll e) (Nat.le_trans (Nat.le_of_ble_eq_true rfl) hd) (Nat.le_of_ble_eq_true rfl) dX6_check_56 (fun v13 σ12 h => ?_)
          refine r_callSI (pc := 59) (As := [.int 255, .int v13]) (st := [.int (v6 &&& 255)]) C cs_X6_290_X6_min h (fun _ _ e => w_X6_min (Nat.le_refl 0) e) (Nat.le_trans (Nat.le_of_ble_eq_true rfl) hd) (Nat.le_of_ble_eq_true rfl) dX6_check_59 (fun v15 σ14 h => ?_)
          refine r_goto (pc := 62) (tgt := 66) C dX6_check_62 (by decide) ?_
          refine r_pick (lv' := [(0, rv B a0), (1, .int x1), (2, .int z2)]) [0, 1, 2] rfl ?_
          exact hk11 _ _ h
theorem w_X6_check {B F : Nat} {d : Nat} {σ : MM} {a0 : Nat} {x1 : Int32} {rf : Int32} {σf : MM} (hd : 2 ≤ d) (h : g_X6_check F σ a0 x1 = some (rf, σf)) : xMA B yX6_check cX6_check 3 (some .int) d 0 0 [rv B a0, .int x1] σ (some (.int rf)) σf := by
  refine xMA.of (by decide +kernel) (Nat.le_of_ble_eq_true rfl) (cat_rv (cat_int cat_nil)) (fun G C E => ?_)
  unfold g_X6_check at h
  obtain ⟨-, h⟩ := r_ck h
  refine r_iload_n (pc := 0) (i := 1) C dX6_check_0 rfl rfl ?_
  refine r_iconst (pc := 1) (v := 0) C dX6_check_1 (by decide) ?_
  refine r_bipush (pc := 2) (v := 10) C dX6_check_2 (by decide) ?_
  refine r_callSI (pc := 4) (As := [.int x1, .int 0, .int 10]) (st := []) C cs_X6_123_X6_in h (fun _ _ e => w_X6_in (Nat.le_refl 0) e) (Nat.le_trans (Nat.le_of_ble_eq_true rfl) hd) (Nat.le_of_ble_eq_true rfl) dX6_check_4 (fun v2 σ1 h => ?_)
  refine r_ifeq (pc := 7) (tgt := 18) C dX6_check_7 (by decide) h (fun h => ?_) (fun h => ?_)
  · refine r_bipush (pc := 18) (v := (-2)) C dX6_check_18 (by decide) ?_
    exact r_iret (pc := 20) C rfl dX6_check_20 h E
  · refine r_iload_n (pc := 10) (i := 1) C dX6_check_10 rfl rfl ?_
    refine r_aload_n (pc := 11) (i := 0) C dX6_check_11 rfl rfl ?_
    refine r_getI (pc := 12) C fd_X6_160 rfl dX6_check_12 h (fun v3 h => ?_)
    refine r_icmple (pc := 15) (tgt := 21) C dX6_check_15 (by decide) h (fun h => ?_) (fun h => ?_)
    · refine r_aload_n (pc := 21) (i := 0) C dX6_check_21 rfl rfl ?_
      refine r_iconst (pc := 22) (v := 0) C dX6_check_22 (by decide) ?_
      refine r_putI (pc := 23) C fd_X6_160 ft_X6_7 dX6_check_23 h (fun σ4 h => ?_)
      refine r_iconst (pc := 26) (v := 0) C dX6_check_26 (by decide) ?_
      refine r_istore_n (pc := 27) (i := 2) C dX6_check_27 rfl (by decide) ?_
      refine r_pick (lv' := [(0, rv B a0), (1, .int x1), (2, .int 0)]) [0, 1, 2] rfl ?_
      refine wl_X6_check_28 hd C E (fun  σ16 h => ?_) _ _ _ h
      refine r_iconst (pc := 77) (v := (-1)) C dX6_check_77 (by decide) ?_
      exact r_iret (pc := 78) C rfl dX6_check_78 h E
    · refine r_bipush (pc := 18) (v := (-2)) C dX6_check_18 (by decide) ?_
      exact r_iret (pc := 20) C rfl dX6_check_20 h E
theorem t_X6_check {F : Nat} {σ : MM} {a0 : Nat} {x1 : Int32} {r : Int32 × MM} (h : g_X6_check F σ a0 x1 = some r) : mT σ a0 = (5, 62) := by
  unfold g_X6_check at h
  exact (r_ck h).1
def g_X6_count (F : Nat) (σ : MM) (a0 : Nat) (x1 : Int32) : Option (Int32 × MM) := if mT σ a0 = (5, 62) then (if x1 = 0 then ((gI σ a0 5 62 5).bind fun v1 => some (v1, σ)) else if x1 = 1 then (bq (g_X6_owedInAll F σ a0) fun v3 σ2 => some (v3, σ2)) else if x1 = 2 then ((gP σ a0 5 62 0).bind fun p4 => (aI σ p4 20 151).bind fun v5 => some (v5, σ)) else if x1 = 3 then ((gP σ a0 5 62 0).bind fun p6 => (aI σ p6 20 153).bind fun v7 => some (v7, σ)) else if x1 = 4 then ((gP σ a0 5 62 0).bind fun p8 => (aI σ p8 20 154).bind fun v9 => some (v9, σ)) else if x1 = 5 then ((gP σ a0 5 62 0).bind fun p10 => (aI σ p10 20 155).bind fun v11 => some (v11, σ)) else if x1 = 6 then ((gP σ a0 5 62 0).bind fun p12 => (aI σ p12 20 156).bind fun v13 => some (v13, σ)) else if x1 = 7 then ((gP σ a0 5 62 0).bind fun p14 => (aI σ p14 20 157).bind fun v15 => some (v15, σ)) else if x1 = 8 then ((gP σ a0 5 62 0).bind fun p16 => (aI σ p16 20 150).bind fun v17 => some (v17, σ)) else if x1 = 9 then ((gI σ a0 5 62 16).bind fun v18 => some (v18, σ)) else if x1 = 10 then ((gI σ a0 5 62 7).bind fun v19 => some (v19, σ)) else if x1 = 11 then ((gP σ a0 5 62 0).bind fun p20 => (aI σ p20 20 158).bind fun v21 => some (v21, σ)) else (some ((-1), σ))) else none
theorem w_X6_count {B F : Nat} {d : Nat} {σ : MM} {a0 : Nat} {x1 : Int32} {rf : Int32} {σf : MM} (hd : 3 ≤ d) (h : g_X6_count F σ a0 x1 = some (rf, σf)) : xMA B yX6_count cX6_count 2 (some .int) d 0 0 [rv B a0, .int x1] σ (some (.int rf)) σf := by
  refine xMA.of (by decide +kernel) (Nat.le_of_ble_eq_true rfl) (cat_rv (cat_int cat_nil)) (fun G C E => ?_)
  unfold g_X6_count at h
  obtain ⟨-, h⟩ := r_ck h
  refine r_iload_n (pc := 0) (i := 1) C dX6_count_0 rfl rfl ?_
  by_cases c0_1 : x1 = 0
  · rw [if_pos c0_1] at h
    refine r_tswE (pc := 1) (tgt := 64) C dX6_count_1 c0_1 (by decide) (by decide) rfl (by decide) ?_
    refine r_aload_n (pc := 64) (i := 0) C dX6_count_64 rfl rfl ?_
    refine r_getI (pc := 65) C fd_X6_127 rfl dX6_count_65 h (fun v1 h => ?_)
    exact r_iret (pc := 68) C rfl dX6_count_68 h E
  rw [if_neg c0_1] at h
  by_cases c1_1 : x1 = 1
  · rw [if_pos c1_1] at h
    refine r_tswE (pc := 1) (tgt := 69) C dX6_count_1 c1_1 (by decide) (by decide) rfl (by decide) ?_
    refine r_aload_n (pc := 69) (i := 0) C dX6_count_69 rfl rfl ?_
    refine r_callVI (pc := 70) (As := []) (st := []) C cs_X6_296_X6_owedInAll h (fun _ _ e => w_X6_owedInAll (Nat.le_refl 2) e) (fun _ _ e => t_X6_owedInAll e) (Nat.le_trans (Nat.le_of_ble_eq_true rfl) hd) (Nat.le_of_ble_eq_true rfl) dX6_count_70 (fun v3 σ2 h => ?_)
    exact r_iret (pc := 73) C rfl dX6_count_73 h E
  rw [if_neg c1_1] at h
  by_cases c2_1 : x1 = 2
  · rw [if_pos c2_1] at h
    refine r_tswE (pc := 1) (tgt := 74) C dX6_count_1 c2_1 (by decide) (by decide) rfl (by decide) ?_
    refine r_aload_n (pc := 74) (i := 0) C dX6_count_74 rfl rfl ?_
    refine r_getP (pc := 75) C fd_X6_7 rfl dX6_count_75 h (fun p4 h => ?_)
    refine r_sipush (pc := 78) (v := 151) C dX6_count_78 (by decide) ?_
    refine r_iald (pc := 81) C dX6_count_81 h (fun v5 h => ?_)
    exact r_iret (pc := 82) C rfl dX6_count_82 h E
  rw [if_neg c2_1] at h
  by_cases c3_1 : x1 = 3
  · rw [if_pos c3_1] at h
    refine r_tswE (pc := 1) (tgt := 83) C dX6_count_1 c3_1 (by decide) (by decide) rfl (by decide) ?_
    refine r_aload_n (pc := 83) (i := 0) C dX6_count_83 rfl rfl ?_
    refine r_getP (pc := 84) C fd_X6_7 rfl dX6_count_84 h (fun p6 h => ?_)
    refine r_sipush (pc := 87) (v := 153) C dX6_count_87 (by decide) ?_
    refine r_iald (pc := 90) C dX6_count_90 h (fun v7 h => ?_)
    exact r_iret (pc := 91) C rfl dX6_count_91 h E
  rw [if_neg c3_1] at h
  by_cases c4_1 : x1 = 4
  · rw [if_pos c4_1] at h
    refine r_tswE (pc := 1) (tgt := 92) C dX6_count_1 c4_1 (by decide) (by decide) rfl (by decide) ?_
    refine r_aload_n (pc := 92) (i := 0) C dX6_count_92 rfl rfl ?_
    refine r_getP (pc := 93) C fd_X6_7 rfl dX6_count_93 h (fun p8 h => ?_)
    refine r_sipush (pc := 96) (v := 154) C dX6_count_96 (by decide) ?_
    refine r_iald (pc := 99) C dX6_count_99 h (fun v9 h => ?_)
    exact r_iret (pc := 100) C rfl dX6_count_100 h E
  rw [if_neg c4_1] at h
  by_cases c5_1 : x1 = 5
  · rw [if_pos c5_1] at h
    refine r_tswE (pc := 1) (tgt := 101) C dX6_count_1 c5_1 (by decide) (by decide) rfl (by decide) ?_
    refine r_aload_n (pc := 101) (i := 0) C dX6_count_101 rfl rfl ?_
    refine r_getP (pc := 102) C fd_X6_7 rfl dX6_count_102 h (fun p10 h => ?_)
    refine r_sipush (pc := 105) (v := 155) C dX6_count_105 (by decide) ?_
    refine r_iald (pc := 108) C dX6_count_108 h (fun v11 h => ?_)
    exact r_iret (pc := 109) C rfl dX6_count_109 h E
  rw [if_neg c5_1] at h
  by_cases c6_1 : x1 = 6
  · rw [if_pos c6_1] at h
    refine r_tswE (pc := 1) (tgt := 110) C dX6_count_1 c6_1 (by decide) (by decide) rfl (by decide) ?_
    refine r_aload_n (pc := 110) (i := 0) C dX6_count_110 rfl rfl ?_
    refine r_getP (pc := 111) C fd_X6_7 rfl dX6_count_111 h (fun p12 h => ?_)
    refine r_sipush (pc := 114) (v := 156) C dX6_count_114 (by decide) ?_
    refine r_iald (pc := 117) C dX6_count_117 h (fun v13 h => ?_)
    exact r_iret (pc := 118) C rfl dX6_count_118 h E
  rw [if_neg c6_1] at h
  by_cases c7_1 : x1 = 7
  · rw [if_pos c7_1] at h
    refine r_tswE (pc := 1) (tgt := 119) C dX6_count_1 c7_1 (by decide) (by decide) rfl (by decide) ?_
    refine r_aload_n (pc := 119) (i := 0) C dX6_count_119 rfl rfl ?_
    refine r_getP (pc := 120) C fd_X6_7 rfl dX6_count_120 h (fun p14 h => ?_)
    refine r_sipush (pc := 123) (v := 157) C dX6_count_123 (by decide) ?_
    refine r_iald (pc := 126) C dX6_count_126 h (fun v15 h => ?_)
    exact r_iret (pc := 127) C rfl dX6_count_127 h E
  rw [if_neg c7_1] at h
  by_cases c8_1 : x1 = 8
  · rw [if_pos c8_1] at h
    refine r_tswE (pc := 1) (tgt := 128) C dX6_count_1 c8_1 (by decide) (by decide) rfl (by decide) ?_
    refine r_aload_n (pc := 128) (i := 0) C dX6_count_128 rfl rfl ?_
    refine r_getP (pc := 129) C fd_X6_7 rfl dX6_count_129 h (fun p16 h => ?_)
    refine r_sipush (pc := 132) (v := 150) C dX6_count_132 (by decide) ?_
    refine r_iald (pc := 135) C dX6_count_135 h (fun v17 h => ?_)
    exact r_iret (pc := 136) C rfl dX6_count_136 h E
  rw [if_neg c8_1] at h
  by_cases c9_1 : x1 = 9
  · rw [if_pos c9_1] at h
    refine r_tswE (pc := 1) (tgt := 137) C dX6_count_1 c9_1 (by decide) (by decide) rfl (by decide) ?_
    refine r_aload_n (pc := 137) (i := 0) C dX6_count_137 rfl rfl ?_
    refine r_getI (pc := 138) C fd_X6_255 rfl dX6_count_138 h (fun v18 h => ?_)
    exact r_iret (pc := 141) C rfl dX6_count_141 h E
  rw [if_neg c9_1] at h
  by_cases c10_1 : x1 = 10
  · rw [if_pos c10_1] at h
    refine r_tswE (pc := 1) (tgt := 142) C dX6_count_1 c10_1 (by decide) (by decide) rfl (by decide) ?_
    refine r_aload_n (pc := 142) (i := 0) C dX6_count_142 rfl rfl ?_
    refine r_getI (pc := 143) C fd_X6_160 rfl dX6_count_143 h (fun v19 h => ?_)
    exact r_iret (pc := 146) C rfl dX6_count_146 h E
  rw [if_neg c10_1] at h
  by_cases c11_1 : x1 = 11
  · rw [if_pos c11_1] at h
    refine r_tswE (pc := 1) (tgt := 147) C dX6_count_1 c11_1 (by decide) (by decide) rfl (by decide) ?_
    refine r_aload_n (pc := 147) (i := 0) C dX6_count_147 rfl rfl ?_
    refine r_getP (pc := 148) C fd_X6_7 rfl dX6_count_148 h (fun p20 h => ?_)
    refine r_sipush (pc := 151) (v := 158) C dX6_count_151 (by decide) ?_
    refine r_iald (pc := 154) C dX6_count_154 h (fun v21 h => ?_)
    exact r_iret (pc := 155) C rfl dX6_count_155 h E
  rw [if_neg c11_1] at h
  refine r_dfl (st := []) (tgt := 156) (pc := 1) ?_ (fun hD => ?_)
  · refine r_iconst (pc := 156) (v := (-1)) C dX6_count_156 (by decide) ?_
    exact r_iret (pc := 157) C rfl dX6_count_157 h E
  have n0_1 := tsw_ne (i := 0) c0_1 (by decide)
  have n1_1 := tsw_ne (i := 1) c1_1 (by decide)
  have n2_1 := tsw_ne (i := 2) c2_1 (by decide)
  have n3_1 := tsw_ne (i := 3) c3_1 (by decide)
  have n4_1 := tsw_ne (i := 4) c4_1 (by decide)
  have n5_1 := tsw_ne (i := 5) c5_1 (by decide)
  have n6_1 := tsw_ne (i := 6) c6_1 (by decide)
  have n7_1 := tsw_ne (i := 7) c7_1 (by decide)
  have n8_1 := tsw_ne (i := 8) c8_1 (by decide)
  have n9_1 := tsw_ne (i := 9) c9_1 (by decide)
  have n10_1 := tsw_ne (i := 10) c10_1 (by decide)
  have n11_1 := tsw_ne (i := 11) c11_1 (by decide)
  exact r_tswO (pc := 1) (tgt := 156) C dX6_count_1 (by omega) (by decide) hD
theorem t_X6_count {F : Nat} {σ : MM} {a0 : Nat} {x1 : Int32} {r : Int32 × MM} (h : g_X6_count F σ a0 x1 = some r) : mT σ a0 = (5, 62) := by
  unfold g_X6_count at h
  exact (r_ck h).1

