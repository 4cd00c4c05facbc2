set_option maxRecDepth 100000
theorem yd_X6_isEven : xYd yX6_isEven 1 := ⟨by decide +kernel, by decide +kernel, by decide +kernel⟩
theorem cs_X6_434_X6_isEven : xCV RX6 434 yX6_isEven cX6_isEven 6 (some .boolean) 5 62 1 := ⟨by decide, by decide, _, rfl, yd_X6_isEven, Or.inl ⟨rfl, lw_V q1813 q1815 qs109 q122 q1816⟩⟩
theorem yd_X6_bits : xYd yX6_bits 1 := ⟨by decide +kernel, by decide +kernel, by decide +kernel⟩
theorem cs_X6_431_X6_bits : xCS RX6 431 yX6_bits cX6_bits 3 (some .int) 1 := ⟨by decide, yd_X6_bits, Or.inl (lw_S q1810 q1811 q122 q1812)⟩
def l_X6_turned_28 (K : Int32 → MM → Option (Int32 × MM)) (F : Nat) (a0 : Nat) (x1 : Int32) : Nat → Int32 → Int32 → MM → Option (Int32 × MM)
  | 0, _, _, _ => none
  | f + 1, z2, z3, σ => (gI σ a0 5 62 50).bind fun v5 => if z3 < ((1 : Int32) <<< (v5 &&& 31)) then (if z2 = (-2) then (bq (g_X6_isEven F σ a0 z3) fun v7 σ6 => if v7 = 0 then (l_X6_turned_28 K F a0 x1 f z2 ((z3 + 1)) σ6) else (l_X6_turned_28 K F a0 x1 f z3 ((z3 + 1)) σ6)) else (bq (g_X6_bits F σ z3) fun v9 σ8 => bq (g_X6_bits F σ8 z2) fun v11 σ10 => if v9 < v11 then (bq (g_X6_isEven F σ10 a0 z3) fun v13 σ12 => if v13 = 0 then (l_X6_turned_28 K F a0 x1 f z2 ((z3 + 1)) σ12) else (l_X6_turned_28 K F a0 x1 f z3 ((z3 + 1)) σ12)) else (l_X6_turned_28 K F a0 x1 f z2 ((z3 + 1)) σ10))) else (K z2 σ)
def g_X6_turned (F : Nat) (σ : MM) (a0 : Nat) (x1 : Int32) : Option (Int32 × MM) := if mT σ a0 = (5, 62) then (bq (g_X6_in F σ x1 0 1) fun v2 σ1 => if v2 = 0 then (some ((-1), σ1)) else (bq (g_X6_laysCoins F σ1 a0 12) fun v4 σ3 => if v4 = 0 then (some ((-3), σ3)) else (l_X6_turned_28 (fun (r2_15 : Int32) (σ14 : MM) => if x1 = 1 then (some (r2_15, σ14)) else (if r2_15 = (-2) then (some (r2_15, σ14)) else (bq (g_X6_bits F σ14 r2_15) fun v17 σ16 => some (v17, σ16)))) F a0 x1 F ((-2)) 0 σ3))) else none
theorem wl_X6_turned_28 {B : Nat} {G : XG} {d : Nat} {rf : Int32} {σf : MM} (hd : 4 ≤ d) (C : xC B G yX6_turned cX6_turned 4 (some .int) d 0 0) (E : xEnd B G (some (.int rf)) σf 0 0) {K : Int32 → MM → Option (Int32 × MM)} {F : Nat} {a0 : Nat} {x1 : Int32} (hK : ∀ (q2 : Int32) (σ : MM), K q2 σ = some (rf, σf) → xV B G 0 0 σ 74 [(1, .int x1), (2, .int q2)] []) : ∀ (f : Nat) (z2 : Int32) (z3 : Int32) (σ : MM), l_X6_turned_28 K F a0 x1 f z2 z3 σ = some (rf, σf) → xV B G 0 0 σ 28 [(0, rv B a0), (1, .int x1), (2, .int z2), (3, .int z3)] [] := by
  intro f
  induction f with
  | zero =>
    intro z2 z3 σ h
    have h : none = some (rf, σf) := h
    cases h
  | succ f ih =>
    intro z2 z3 σ h
    rw [l_X6_turned_28.eq_2] at h
    refine r_iload_n (pc := 28) (i := 3) C dX6_turned_28 rfl rfl ?_
    refine r_iconst (pc := 29) (v := 1) C dX6_turned_29 (by decide) ?_
    refine r_aload_n (pc := 30) (i := 0) C dX6_turned_30 rfl rfl ?_
    refine r_getI (pc := 31) C fd_X6_400 rfl dX6_turned_31 h (fun v5 h => ?_)
    refine r_ishl (pc := 34) C dX6_turned_34 ?_
    refine r_icmpge (pc := 35) (tgt := 74) C dX6_turned_35 (by decide) h (fun h => ?_) (fun h => ?_)
    · refine r_pick (lv' := [(1, .int x1), (2, .int z2)]) [1, 2] rfl ?_
      exact hK _ _ h
    · refine r_iload_n (pc := 38) (i := 2) C dX6_turned_38 rfl rfl ?_
      refine r_bipush (pc := 39) (v := (-2)) C dX6_turned_39 (by decide) ?_
      refine r_icmpeq (pc := 41) (tgt := 55) C dX6_turned_41 (by decide) h (fun h => ?_) (fun h => ?_)
      · refine r_aload_n (pc := 55) (i := 0) C dX6_turned_55 rfl rfl ?_
        refine r_iload_n (pc := 56) (i := 3) C dX6_turned_56 rfl rfl ?_
        refine r_callVI (pc := 57) (As := [.int z3]) (st := []) C cs_X6_434_X6_isEven h (fun _ _ e => w_X6_isEven (Nat.le_refl 1) e) (fun _ _ e => t_X6_isEven e) (Nat.le_trans (Nat.le_of_ble_eq_true rfl) hd) (Nat.le_of_ble_eq_true rfl) dX6_turned_57 (fun v7 σ6 h => ?_)
        refine r_ifne (pc := 60) (tgt := 66) C dX6_turned_60 (by decide) h (fun h => ?_) (fun h => ?_)
        · refine r_iload_n (pc := 66) (i := 3) C dX6_turned_66 rfl rfl ?_
          refine r_istore_n (pc := 67) (i := 2) C dX6_turned_67 rfl (by decide) ?_
          refine r_iinc (pc := 68) (i := 3) (v := (z3 + 1)) C dX6_turned_68 rfl rfl (by decide) ?_
          refine r_goto (pc := 71) (tgt := 28) C dX6_turned_71 (by decide) ?_
          refine r_pick (lv' := [(0, rv B a0), (1, .int x1), (2, .int z3), (3, .int (z3 + 1))]) [0, 1, 2, 3] rfl ?_
          exact ih _ _ _ h
        · refine r_goto (pc := 63) (tgt := 68) C dX6_turned_63 (by decide) ?_
          refine r_iinc (pc := 68) (i := 3) (v := (z3 + 1)) C dX6_turned_68 rfl rfl (by decide) ?_
          refine r_goto (pc := 71) (tgt := 28) C dX6_turned_71 (by decide) ?_
          refine r_pick (lv' := [(0, rv B a0), (1, .int x1), (2, .int z2), (3, .int (z3 + 1))]) [0, 1, 2, 3] rfl ?_
          exact ih _ _ _ h
      · refine r_iload_n (pc := 44) (i := 3) C dX6_turned_44 rfl rfl ?_
        refine r_callSI (pc := 45) (As := [.int z3]) (st := []) C cs_X6_431_X6_bits h (fun _ _ e => w_X6_bits (Nat.le_refl 0) e) (Nat.le_trans (Nat.le_of_ble_eq_true rfl) hd) (Nat.le_of_ble_eq_true rfl) dX6_turned_45 (fun v9 σ8 h => ?_)
        refine r_iload_n (pc := 48) (i := 2) C dX6_turned_48 rfl rfl ?_
        refine r_callSI (pc := 49) (As := [.int z2]) (st := [.int v9]) C cs_X6_431_X6_bits h (fun _ _ e => w_X6_bits (Nat.le_refl 0) e) (Nat.le_trans (Nat.le_of_ble_eq_true rfl) hd) (Nat.le_of_ble_eq_true rfl) dX6_turned_49 (fun v11 σ10 h => ?_)
        refine r_icmpge (pc := 52) (tgt := 68) C dX6_turned_52 (by decide) h (fun h => ?_) (fun h => ?_)
        · refine r_iinc (pc := 68) (i := 3) (v := (z3 + 1)) C dX6_turned_68 rfl rfl (by decide) ?_
          refine r_goto (pc := 71) (tgt := 28) C dX6_turned_71 (by decide) ?_
          refine r_pick (lv' := [(0, rv B a0), (1, .int x1), (2, .int z2), (3, .int (z3 + 1))]) [0, 1, 2, 3] rfl ?_
          exact ih _ _ _ h
        · refine r_aload_n (pc := 55) (i := 0) C dX6_turned_55 rfl rfl ?_
          refine r_iload_n (pc := 56) (i := 3) C dX6_turned_56 rfl rfl ?_
          refine r_callVI (pc := 57) (As := [.int z3]) (st := []) C cs_X6_434_X6_isEven h (fun _ _ e => w_X6_isEven (Nat.le_refl 1) e) (fun _ _ e => t_X6_isEven e) (Nat.le_trans (Nat.le_of_ble_eq_true rfl) hd) (Nat.le_of_ble_eq_true rfl) dX6_turned_57 (fun v13 σ12 h => ?_)
          refine r_ifne (pc := 60) (tgt := 66) C dX6_turned_60 (by decide) h (fun h => ?_) (fun h => ?_)
          · refine r_iload_n (pc := 66) (i := 3) C dX6_turned_66 rfl rfl ?_
            refine r_istore_n (pc := 67) (i := 2) C dX6_turned_67 rfl (by decide) ?_
            refine r_iinc (pc := 68) (i := 3) (v := (z3 + 1)) C dX6_turned_68 rfl rfl (by decide) ?_
            refine r_goto (pc := 71) (tgt := 28) C dX6_turned_71 (by decide) ?_
            refine r_pick (lv' := [(0, rv B a0), (1, .int x1), (2, .int z3), (3, .int (z3 + 1))]) [0, 1, 2, 3] rfl ?_
            exact ih _ _ _ h
          · refine r_goto (pc := 63) (tgt := 68) C dX6_turned_63 (by decide) ?_
            refine r_iinc (pc := 68) (i := 3) (v := (z3 + 1)) C dX6_turned_68 rfl rfl (by decide) ?_
            refine r_goto (pc := 71) (tgt := 28) C dX6_turned_71 (by decide) ?_
            refine r_pick (lv' := [(0, rv B a0), (1, .int x1), (2, .int z2), (3, .int (z3 + 1))]) [0, 1, 2, 3] rfl ?_
            exact ih _ _ _ h
theorem w_X6_turned {B F : Nat} {d : Nat} {σ : MM} {a0 : Nat} {x1 : Int32} {rf : Int32} {σf : MM} (hd : 4 ≤ d) (h : g_X6_turned F σ a0 x1 = some (rf, σf)) : xMA B yX6_turned cX6_turned 4 (some .int) d 0 0 [rv B a0, .int x1] σ (some (.int rf)) σf := by
  refine xMA.of (by decide +kernel) (Nat.le_of_ble_eq_true rfl) (cat_rv (cat_int cat_nil)) (fun G C E => ?_)
  unfold g_X6_turned at h
  obtain ⟨-, h⟩ := r_ck h
  refine r_iload_n (pc := 0) (i := 1) C dX6_turned_0 rfl rfl ?_
  refine r_iconst (pc := 1) (v := 0) C dX6_turned_1 (by decide) ?_
  refine r_iconst (pc := 2) (v := 1) C dX6_turned_2 (by decide) ?_
  refine r_callSI (pc := 3) (As := [.int x1, .int 0, .int 1]) (st := []) C cs_X6_123_X6_in h (fun _ _ e => w_X6_in (Nat.le_refl 0) e) (Nat.le_trans (Nat.le_of_ble_eq_true rfl) hd) (Nat.le_of_ble_eq_true rfl) dX6_turned_3 (fun v2 σ1 h => ?_)
  refine r_ifne (pc := 6) (tgt := 11) C dX6_turned_6 (by decide) h (fun h => ?_) (fun h => ?_)
  · refine r_aload_n (pc := 11) (i := 0) C dX6_turned_11 rfl rfl ?_
    refine r_bipush (pc := 12) (v := 12) C dX6_turned_12 (by decide) ?_
    refine r_callVI (pc := 14) (As := [.int 12]) (st := []) C cs_X6_403_X6_laysCoins h (fun _ _ e => w_X6_laysCoins (Nat.le_refl 3) e) (fun _ _ e => t_X6_laysCoins e) (Nat.le_trans (Nat.le_of_ble_eq_true rfl) hd) (Nat.le_of_ble_eq_true rfl) dX6_turned_14 (fun v4 σ3 h => ?_)
    refine r_ifne (pc := 17) (tgt := 23) C dX6_turned_17 (by decide) h (fun h => ?_) (fun h => ?_)
    · refine r_bipush (pc := 23) (v := (-2)) C dX6_turned_23 (by decide) ?_
      refine r_istore_n (pc := 25) (i := 2) C dX6_turned_25 rfl (by decide) ?_
      refine r_iconst (pc := 26) (v := 0) C dX6_turned_26 (by decide) ?_
      refine r_istore_n (pc := 27) (i := 3) C dX6_turned_27 rfl (by decide) ?_
      refine r_pick (lv' := [(0, rv B a0), (1, .int x1), (2, .int (-2)), (3, .int 0)]) [0, 1, 2, 3] rfl ?_
      refine wl_X6_turned_28 hd C E (fun r2_15 σ14 h => ?_) _ _ _ _ h
      refine r_iload_n (pc := 74) (i := 1) C dX6_turned_74 rfl rfl ?_
      refine r_iconst (pc := 75) (v := 1) C dX6_turned_75 (by decide) ?_
      refine r_icmpeq (pc := 76) (tgt := 85) C dX6_turned_76 (by decide) h (fun h => ?_) (fun h => ?_)
      · refine r_iload_n (pc := 85) (i := 2) C dX6_turned_85 rfl rfl ?_
        refine r_goto (pc := 86) (tgt := 93) C dX6_turned_86 (by decide) ?_
        exact r_iret (pc := 93) C rfl dX6_turned_93 h E
      · refine r_iload_n (pc := 79) (i := 2) C dX6_turned_79 rfl rfl ?_
        refine r_bipush (pc := 80) (v := (-2)) C dX6_turned_80 (by decide) ?_
        refine r_icmpne (pc := 82) (tgt := 89) C dX6_turned_82 (by decide) h (fun h => ?_) (fun h => ?_)
        · refine r_iload_n (pc := 89) (i := 2) C dX6_turned_89 rfl rfl ?_
          refine r_callSI (pc := 90) (As := [.int r2_15]) (st := []) C cs_X6_431_X6_bits h (fun _ _ e => w_X6_bits (Nat.le_refl 0) e) (Nat.le_trans (Nat.le_of_ble_eq_true rfl) hd) (Nat.le_of_ble_eq_true rfl) dX6_turned_90 (fun v17 σ16 h => ?_)
          exact r_iret (pc := 93) C rfl dX6_turned_93 h E
        · refine r_iload_n (pc := 85) (i := 2) C dX6_turned_85 rfl rfl ?_
          refine r_goto (pc := 86) (tgt := 93) C dX6_turned_86 (by decide) ?_
          exact r_iret (pc := 93) C rfl dX6_turned_93 h E
    · refine r_bipush (pc := 20) (v := (-3)) C dX6_turned_20 (by decide) ?_
      exact r_iret (pc := 22) C rfl dX6_turned_22 h E
  · refine r_iconst (pc := 9) (v := (-1)) C dX6_turned_9 (by decide) ?_
    exact r_iret (pc := 10) C rfl dX6_turned_10 h E
theorem t_X6_turned {F : Nat} {σ : MM} {a0 : Nat} {x1 : Int32} {r : Int32 × MM} (h : g_X6_turned F σ a0 x1 = some r) : mT σ a0 = (5, 62) := by
  unfold g_X6_turned at h
  exact (r_ck h).1
def g_X6_setOff (F : Nat) (σ : MM) (a0 : Nat) (x1 : Int32) : Option (Int32 × MM) := if mT σ a0 = (5, 62) then (bq (g_X6_isPerson F σ a0 x1) fun v2 σ1 => if v2 = 0 then (some ((-1000000), σ1)) else (bq (g_X6_setOffOf F σ1 a0 x1) fun v4 σ3 => some (v4, σ3))) else none
theorem w_X6_setOff {B F : Nat} {d : Nat} {σ : MM} {a0 : Nat} {x1 : Int32} {rf : Int32} {σf : MM} (hd : 3 ≤ d) (h : g_X6_setOff F σ a0 x1 = some (rf, σf)) : xMA B yX6_setOff cX6_setOff 2 (some .int) d 0 0 [rv B a0, .int x1] σ (some (.int rf)) σf := by
  refine xMA.of (by decide +kernel) (Nat.le_of_ble_eq_true rfl) (cat_rv (cat_int cat_nil)) (fun G C E => ?_)
  unfold g_X6_setOff at h
  obtain ⟨-, h⟩ := r_ck h
  refine r_aload_n (pc := 0) (i := 0) C dX6_setOff_0 rfl rfl ?_
  refine r_iload_n (pc := 1) (i := 1) C dX6_setOff_1 rfl rfl ?_
  refine r_callVI (pc := 2) (As := [.int x1]) (st := []) C cs_X6_135_X6_isPerson h (fun _ _ e => w_X6_isPerson (Nat.le_refl 1) e) (fun _ _ e => t_X6_isPerson e) (Nat.le_trans (Nat.le_of_ble_eq_true rfl) hd) (Nat.le_of_ble_eq_true rfl) dX6_setOff_2 (fun v2 σ1 h => ?_)
  refine r_ifeq (pc := 5) (tgt := 16) C dX6_setOff_5 (by decide) h (fun h => ?_) (fun h => ?_)
  · refine r_ldc_w (pc := 16) C q1821 dX6_setOff_16 ?_
    exact r_iret (pc := 19) C rfl dX6_setOff_19 h E
  · refine r_aload_n (pc := 8) (i := 0) C dX6_setOff_8 rfl rfl ?_
    refine r_iload_n (pc := 9) (i := 1) C dX6_setOff_9 rfl rfl ?_
    refine r_callVI (pc := 10) (As := [.int x1]) (st := []) C cs_X6_419_X6_setOffOf h (fun _ _ e => w_X6_setOffOf (Nat.le_refl 2) e) (fun _ _ e => t_X6_setOffOf e) (Nat.le_trans (Nat.le_of_ble_eq_true rfl) hd) (Nat.le_of_ble_eq_true rfl) dX6_setOff_10 (fun v4 σ3 h => ?_)
    refine r_goto (pc := 13) (tgt := 19) C dX6_setOff_13 (by decide) ?_
    exact r_iret (pc := 19) C rfl dX6_setOff_19 h E
theorem t_X6_setOff {F : Nat} {σ : MM} {a0 : Nat} {x1 : Int32} {r : Int32 × MM} (h : g_X6_setOff F σ a0 x1 = some r) : mT σ a0 = (5, 62) := by
  unfold g_X6_setOff at h
  exact (r_ck h).1
theorem fd_X6_117 : xFg RX6 117 5 62 59 := ⟨_, rfl, rfl, by decide, by decide, in_X6, Or.inl q1324⟩
theorem ft_X6_59 : xFt 5 59 (.array .int) true := ⟨_, rfl, by decide +kernel, rfl, rfl⟩
theorem fd_X6_120 : xFg RX6 120 5 62 60 := ⟨_, rfl, rfl, by decide, by decide, in_X6, Or.inl q1325⟩
theorem ft_X6_60 : xFt 5 60 (.array .int) true := ⟨_, rfl, by decide +kernel, rfl, rfl⟩
def l_X6_laysGroups_25 (K : MM → Option (MM)) (F : Nat) (a0 : Nat) (x1 : Int32) : Nat → Int32 → MM → Option (MM)
  | 0, _, _ => none
  | f + 1, z2, σ => if z2 < 10 then (bq (g_X6_has F σ x1 z2) fun v6 σ5 => if v6 = 0 then (l_X6_laysGroups_25 K F a0 x1 f ((z2 + 1)) σ5) else ((gP σ5 a0 5 62 59).bind fun p7 => (gP σ5 a0 5 62 59).bind fun p8 => (aI σ5 p8 20 x1).bind fun v9 => bq (g_X6_setOffOf F σ5 a0 z2) fun v11 σ10 => (sI σ10 p7 x1 ((v9 + v11))).bind fun σ12 => (gP σ12 a0 5 62 60).bind fun p13 => (gP σ12 a0 5 62 60).bind fun p14 => (aI σ12 p14 20 x1).bind fun v15 => (gP σ12 a0 5 62 60).bind fun p16 => (aI σ12 p16 20 ((x1 &&& (((1 : Int32) <<< (z2 &&& 31)) ^^^ (-1))))).bind fun v17 => bq (g_X6_max F σ12 v15 v17) fun v19 σ18 => (sI σ18 p13 x1 v19).bind fun σ20 => l_X6_laysGroups_25 K F a0 x1 f ((z2 + 1)) σ20)) else (K σ)
def l_X6_laysGroups_2 (K : MM → Option (MM)) (F : Nat) (a0 : Nat) : Nat → Int32 → MM → Option (MM)
  | 0, _, _ => none
  | f + 1, z1, σ => if z1 < 1024 then ((gP σ a0 5 62 59).bind fun p1 => (sI σ p1 z1 0).bind fun σ2 => (gP σ2 a0 5 62 60).bind fun p3 => (sI σ2 p3 z1 0).bind fun σ4 => l_X6_laysGroups_25 (fun (σ21 : MM) => if z1 = 0 then (l_X6_laysGroups_2 K F a0 f ((z1 + 1)) σ21) else ((gP σ21 a0 5 62 59).bind fun p22 => (aI σ21 p22 20 z1).bind fun v23 => if v23 = 0 then ((gP σ21 a0 5 62 60).bind fun p24 => (gP σ21 a0 5 62 60).bind fun p25 => (aI σ21 p25 20 z1).bind fun v26 => (sI σ21 p24 z1 ((v26 + 1))).bind fun σ27 => l_X6_laysGroups_2 K F a0 f ((z1 + 1)) σ27) else (l_X6_laysGroups_2 K F a0 f ((z1 + 1)) σ21))) F a0 z1 F 0 σ4) else (K σ)
def g_X6_laysGroups (F : Nat) (σ : MM) (a0 : Nat) : Option (MM) := if mT σ a0 = (5, 62) then (l_X6_laysGroups_2 (fun (σ28 : MM) => some σ28) F a0 F 0 σ) else none
theorem wl_X6_laysGroups_25 {B : Nat} {G : XG} {d : Nat} {σf : MM} (hd : 3 ≤ d) (C : xC B G yX6_laysGroups cX6_laysGroups 3 none d 0 0) (E : xEnd B G none σf 0 0) {K : MM → Option (MM)} {F : Nat} {a0 : Nat} {x1 : Int32} (hK : ∀ (σ : MM), K σ = some σf → xV B G 0 0 σ 93 [(0, rv B a0), (1, .int x1)] []) : ∀ (f : Nat) (z2 : Int32) (σ : MM), l_X6_laysGroups_25 K F a0 x1 f z2 σ = some σf → xV B G 0 0 σ 25 [(0, rv B a0), (1, .int x1), (2, .int z2)] [] := by
  intro f
  induction f with
  | zero =>
    intro z2 σ h
    have h : none = some σf := h
    cases h
  | succ f ih =>
    intro z2 σ h
    rw [l_X6_laysGroups_25.eq_2] at h
    refine r_iload_n (pc := 25) (i := 2) C dX6_laysGroups_25 rfl rfl ?_
    refine r_bipush (pc := 26) (v := 10) C dX6_laysGroups_26 (by decide) ?_
    refine r_icmpge (pc := 28) (tgt := 93) C dX6_laysGroups_28 (by decide) h (fun h => ?_) (fun h => ?_)
    · refine r_pick (lv' := [(0, rv B a0), (1, .int x1)]) [0, 1] rfl ?_
      exact hK _ h
    · refine r_iload_n (pc := 31) (i := 1) C dX6_laysGroups_31 rfl rfl ?_
      refine r_iload_n (pc := 32) (i := 2) C dX6_laysGroups_32 rfl rfl ?_
      refine r_callSI (pc := 33) (As := [.int x1, .int z2]) (st := []) C cs_X6_131_X6_has h (fun _ _ e => w_X6_has (Nat.le_refl 0) e) (Nat.le_trans (Nat.le_of_ble_eq_true rfl) hd) (Nat.le_of_ble_eq_true rfl) dX6_laysGroups_33 (fun v6 σ5 h => ?_)
      refine r_ifne (pc := 36) (tgt := 42) C dX6_laysGroups_36 (by decide) h (fun h => ?_) (fun h => ?_)
      · refine r_aload_n (pc := 42) (i := 0) C dX6_laysGroups_42 rfl rfl ?_
        refine r_getP (pc := 43) C fd_X6_117 rfl dX6_laysGroups_43 h (fun p7 h => ?_)
        refine r_iload_n (pc := 46) (i := 1) C dX6_laysGroups_46 rfl rfl ?_
        refine r_aload_n (pc := 47) (i := 0) C dX6_laysGroups_47 rfl rfl ?_
        refine r_getP (pc := 48) C fd_X6_117 rfl dX6_laysGroups_48 h (fun p8 h => ?_)
        refine r_iload_n (pc := 51) (i := 1) C dX6_laysGroups_51 rfl rfl ?_
        refine r_iald (pc := 52) C dX6_laysGroups_52 h (fun v9 h => ?_)
        refine r_aload_n (pc := 53) (i := 0) C dX6_laysGroups_53 rfl rfl ?_
        refine r_iload_n (pc := 54) (i := 2) C dX6_laysGroups_54 rfl rfl ?_
        refine r_callVI (pc := 55) (As := [.int z2]) (st := [.int v9, .int x1, rv B p7]) C cs_X6_419_X6_setOffOf h (fun _ _ e => w_X6_setOffOf (Nat.le_refl 2) e) (fun _ _ e => t_X6_setOffOf e) (Nat.le_trans (Nat.le_of_ble_eq_true rfl) hd) (Nat.le_of_ble_eq_true rfl) dX6_laysGroups_55 (fun v11 σ10 h => ?_)
        refine r_iadd (pc := 58) C dX6_laysGroups_58 ?_
        refine r_iast (pc := 59) C dX6_laysGroups_59 h (fun σ12 h => ?_)
        refine r_aload_n (pc := 60) (i := 0) C dX6_laysGroups_60 rfl rfl ?_
        refine r_getP (pc := 61) C fd_X6_120 rfl dX6_laysGroups_61 h (fun p13 h => ?_)
        refine r_iload_n (pc := 64) (i := 1) C dX6_laysGroups_64 rfl rfl ?_
        refine r_aload_n (pc := 65) (i := 0) C dX6_laysGroups_65 rfl rfl ?_
        refine r_getP (pc := 66) C fd_X6_120 rfl dX6_laysGroups_66 h (fun p14 h => ?_)
        refine r_iload_n (pc := 69) (i := 1) C dX6_laysGroups_69 rfl rfl ?_
        refine r_iald (pc := 70) C dX6_laysGroups_70 h (fun v15 h => ?_)
        refine r_aload_n (pc := 71) (i := 0) C dX6_laysGroups_71 rfl rfl ?_
        refine r_getP (pc := 72) C fd_X6_120 rfl dX6_laysGroups_72 h (fun p16 h => ?_)
        refine r_iload_n (pc := 75) (i := 1) C dX6_laysGroups_75 rfl rfl ?_
        refine r_iconst (pc := 76) (v := 1) C dX6_laysGroups_76 (by decide) ?_
        refine r_iload_n (pc := 77) (i := 2) C dX6_laysGroups_77 rfl rfl ?_
        refine r_ishl (pc := 78) C dX6_laysGroups_78 ?_
        refine r_iconst (pc := 79) (v := (-1)) C dX6_laysGroups_79 (by decide) ?_
        refine r_ixor (pc := 80) C dX6_laysGroups_80 ?_
        refine r_iand (pc := 81) C dX6_laysGroups_81 ?_
        refine r_iald (pc := 82) C dX6_laysGroups_82 h (fun v17 h => ?_)
        refine r_callSI (pc := 83) (As := [.int v15, .int v17]) (st := [.int x1, rv B p13]) C cs_X6_143_X6_max h (fun _ _ e => w_X6_max (Nat.le_refl 0) e) (Nat.le_trans (Nat.le_of_ble_eq_true rfl) hd) (Nat.le_of_ble_eq_true rfl) dX6_laysGroups_83 (fun v19 σ18 h => ?_)
        refine r_iast (pc := 86) C dX6_laysGroups_86 h (fun σ20 h => ?_)
        refine r_iinc (pc := 87) (i := 2) (v := (z2 + 1)) C dX6_laysGroups_87 rfl rfl (by decide) ?_
        refine r_goto (pc := 90) (tgt := 25) C dX6_laysGroups_90 (by decide) ?_
        refine r_pick (lv' := [(0, rv B a0), (1, .int x1), (2, .int (z2 + 1))]) [0, 1, 2] rfl ?_
        exact ih _ _ h
      · refine r_goto (pc := 39) (tgt := 87) C dX6_laysGroups_39 (by decide) ?_
        refine r_iinc (pc := 87) (i := 2) (v := (z2 + 1)) C dX6_laysGroups_87 rfl rfl (by decide) ?_
        refine r_goto (pc := 90) (tgt := 25) C dX6_laysGroups_90 (by decide) ?_
        refine r_pick (lv' := [(0, rv B a0), (1, .int x1), (2, .int (z2 + 1))]) [0, 1, 2] rfl ?_
        exact ih _ _ h
theorem wl_X6_laysGroups_2 {B : Nat} {G : XG} {d : Nat} {σf : MM} (hd : 3 ≤ d) (C : xC B G yX6_laysGroups cX6_laysGroups 3 none d 0 0) (E : xEnd B G none σf 0 0) {K : MM → Option (MM)} {F : Nat} {a0 : Nat} (hK : ∀ (σ : MM), K σ = some σf → xV B G 0 0 σ 126 [] []) : ∀ (f : Nat) (z1 : Int32) (σ : MM), l_X6_laysGroups_2 K F a0 f z1 σ = some σf → xV B G 0 0 σ 2 [(0, rv B a0), (1, .int z1)] [] := by
  intro f
  induction f with
  | zero =>
    intro z1 σ h
    have h : none = some σf := h
    cases h
  | succ f ih =>
    intro z1 σ h
    rw [l_X6_laysGroups_2.eq_2] at h
    refine r_iload_n (pc := 2) (i := 1) C dX6_laysGroups_2 rfl rfl ?_
    refine r_sipush (pc := 3) (v := 1024) C dX6_laysGroups_3 (by decide) ?_
    refine r_icmpge (pc := 6) (tgt := 126) C dX6_laysGroups_6 (by decide) h (fun h => ?_) (fun h => ?_)
    · refine r_pick (lv' := []) [] rfl ?_
      exact hK _ h
    · refine r_aload_n (pc := 9) (i := 0) C dX6_laysGroups_9 rfl rfl ?_
      refine r_getP (pc := 10) C fd_X6_117 rfl dX6_laysGroups_10 h (fun p1 h => ?_)
      refine r_iload_n (pc := 13) (i := 1) C dX6_laysGroups_13 rfl rfl ?_
      refine r_iconst (pc := 14) (v := 0) C dX6_laysGroups_14 (by decide) ?_
      refine r_iast (pc := 15) C dX6_laysGroups_15 h (fun σ2 h => ?_)
      refine r_aload_n (pc := 16) (i := 0) C dX6_laysGroups_16 rfl rfl ?_
      refine r_getP (pc := 17) C fd_X6_120 rfl dX6_laysGroups_17 h (fun p3 h => ?_)
      refine r_iload_n (pc := 20) (i := 1) C dX6_laysGroups_20 rfl rfl ?_
      refine r_iconst (pc := 21) (v := 0) C dX6_laysGroups_21 (by decide) ?_
      refine r_iast (pc := 22) C dX6_laysGroups_22 h (fun σ4 h => ?_)
      refine r_iconst (pc := 23) (v := 0) C dX6_laysGroups_23 (by decide) ?_
      refine r_istore_n (pc := 24) (i := 2) C dX6_laysGroups_24 rfl (by decide) ?_
      refine r_pick (lv' := [(0, rv B a0), (1, .int z1), (2, .int 0)]) [0, 1, 2] rfl ?_
      refine wl_X6_laysGroups_25 hd C E (fun  σ21 h => ?_) _ _ _ h
      refine r_iload_n (pc := 93) (i := 1) C dX6_laysGroups_93 rfl rfl ?_
      refine r_ifeq (pc := 94) (tgt := 120) C dX6_laysGroups_94 (by decide) h (fun h => ?_) (fun h => ?_)
      · refine r_iinc (pc := 120) (i := 1) (v := (z1 + 1)) C dX6_laysGroups_120 rfl rfl (by decide) ?_
        refine r_goto (pc := 123) (tgt := 2) C dX6_laysGroups_123 (by decide) ?_
        refine r_pick (lv' := [(0, rv B a0), (1, .int (z1 + 1))]) [0, 1] rfl ?_
        exact ih _ _ h
      · refine r_aload_n (pc := 97) (i := 0) C dX6_laysGroups_97 rfl rfl ?_
        refine r_getP (pc := 98) C fd_X6_117 rfl dX6_laysGroups_98 h (fun p22 h => ?_)
        refine r_iload_n (pc := 101) (i := 1) C dX6_laysGroups_101 rfl rfl ?_
        refine r_iald (pc := 102) C dX6_laysGroups_102 h (fun v23 h => ?_)
        refine r_ifne (pc := 103) (tgt := 120) C dX6_laysGroups_103 (by decide) h (fun h => ?_) (fun h => ?_)
        · refine r_iinc (pc := 120) (i := 1) (v := (z1 + 1)) C dX6_laysGroups_120 rfl rfl (by decide) ?_
          refine r_goto (pc := 123) (tgt := 2) C dX6_laysGroups_123 (by decide) ?_
          refine r_pick (lv' := [(0, rv B a0), (1, .int (z1 + 1))]) [0, 1] rfl ?_
          exact ih _ _ h
        · refine r_aload_n (pc := 106) (i := 0) C dX6_laysGroups_106 rfl rfl ?_
          refine r_getP (pc := 107) C fd_X6_120 rfl dX6_laysGroups_107 h (fun p24 h => ?_)
          refine r_iload_n (pc := 110) (i := 1) C dX6_laysGroups_110 rfl rfl ?_
          refine r_aload_n (pc := 111) (i := 0) C dX6_laysGroups_111 rfl rfl ?_
          refine r_getP (pc := 112) C fd_X6_120 rfl dX6_laysGroups_112 h (fun p25 h => ?_)
          refine r_iload_n (pc := 115) (i := 1) C dX6_laysGroups_115 rfl rfl ?_
          refine r_iald (pc := 116) C dX6_laysGroups_116 h (fun v26 h => ?_)
          refine r_iconst (pc := 117) (v := 1) C dX6_laysGroups_117 (by decide) ?_
          refine r_iadd (pc := 118) C dX6_laysGroups_118 ?_
          refine r_iast (pc := 119) C dX6_laysGroups_119 h (fun σ27 h => ?_)
          refine r_iinc (pc := 120) (i := 1) (v := (z1 + 1)) C dX6_laysGroups_120 rfl rfl (by decide) ?_
          refine r_goto (pc := 123) (tgt := 2) C dX6_laysGroups_123 (by decide) ?_
          refine r_pick (lv' := [(0, rv B a0), (1, .int (z1 + 1))]) [0, 1] rfl ?_
          exact ih _ _ h
theorem w_X6_laysGroups {B F : Nat} {d : Nat} {σ : MM} {a0 : Nat} {σf : MM} (hd : 3 ≤ d) (h : g_X6_laysGroups F σ a0 = some σf) : xMA B yX6_laysGroups cX6_laysGroups 3 none d 0 0 [rv B a0] σ none σf := by
  refine xMA.of (by decide +kernel) (Nat.le_of_ble_eq_true rfl) (cat_rv cat_nil) (fun G C E => ?_)
  unfold g_X6_laysGroups at h
  obtain ⟨-, h⟩ := r_ck h
  refine r_iconst (pc := 0) (v := 0) C dX6_laysGroups_0 (by decide) ?_
  refine r_istore_n (pc := 1) (i := 1) C dX6_laysGroups_1 rfl (by decide) ?_
  refine r_pick (lv' := [(0, rv B a0), (1, .int 0)]) [0, 1] rfl ?_
  refine wl_X6_laysGroups_2 hd C E (fun  σ28 h => ?_) _ _ _ h
  exact r_vret (pc := 126) C rfl dX6_laysGroups_126 h E
theorem t_X6_laysGroups {F : Nat} {σ : MM} {a0 : Nat} {r : MM} (h : g_X6_laysGroups F σ a0 = some r) : mT σ a0 = (5, 62) := by
  unfold g_X6_laysGroups at h
  exact (r_ck h).1
theorem yd_X6_laysGroups : xYd yX6_laysGroups 0 := ⟨by decide +kernel, by decide +kernel, by decide +kernel⟩
theorem cs_X6_438_X6_laysGroups : xCV RX6 438 yX6_laysGroups cX6_laysGroups 3 none 5 62 0 := ⟨by decide, by decide, _, rfl, yd_X6_laysGroups, Or.inl ⟨rfl, lw_V q1826 q1828 qs110 q122 q1829⟩⟩
def l_X6_fewest_4 (K : Int32 → MM → Option (Int32 × MM)) (F : Nat) (a0 : Nat) : Nat → Int32 → Int32 → MM → Option (Int32 × MM)
  | 0, _, _, _ => none
  | f + 1, z1, z2, σ => if z2 < 10 then (bq (g_X6_setOffOf F σ a0 z2) fun v2 σ1 => if v2 = 0 then (l_X6_fewest_4 K F a0 f z1 ((z2 + 1)) σ1) else (l_X6_fewest_4 K F a0 f ((z1 ||| ((1 : Int32) <<< (z2 &&& 31)))) ((z2 + 1)) σ1)) else (K z1 σ)
def g_X6_fewest (F : Nat) (σ : MM) (a0 : Nat) : Option (Int32 × MM) := if mT σ a0 = (5, 62) then (l_X6_fewest_4 (fun (r1_4 : Int32) (σ3 : MM) => (g_X6_laysGroups F σ3 a0).bind fun σ5 => bq (g_X6_bits F σ5 r1_4) fun v7 σ6 => (gP σ6 a0 5 62 60).bind fun p8 => (aI σ6 p8 20 r1_4).bind fun v9 => some ((v7 - v9), σ6)) F a0 F 0 0 σ) else none
theorem wl_X6_fewest_4 {B : Nat} {G : XG} {d : Nat} {rf : Int32} {σf : MM} (hd : 4 ≤ d) (C : xC B G yX6_fewest cX6_fewest 3 (some .int) d 0 0) (E : xEnd B G (some (.int rf)) σf 0 0) {K : Int32 → MM → Option (Int32 × MM)} {F : Nat} {a0 : Nat} (hK : ∀ (q1 : Int32) (σ : MM), K q1 σ = some (rf, σf) → xV B G 0 0 σ 30 [(0, rv B a0), (1, .int q1)] []) : ∀ (f : Nat) (z1 : Int32) (z2 : Int32) (σ : MM), l_X6_fewest_4 K F a0 f z1 z2 σ = some (rf, σf) → xV B G 0 0 σ 4 [(0, rv B a0), (1, .int z1), (2, .int z2)] [] := by
  intro f
  induction f with
  | zero =>
    intro z1 z2 σ h
    have h : none = some (rf, σf) := h
    cases h
  | succ f ih =>
    intro z1 z2 σ h
    rw [l_X6_fewest_4.eq_2] at h
    refine r_iload_n (pc := 4) (i := 2) C dX6_fewest_4 rfl rfl ?_
    refine r_bipush (pc := 5) (v := 10) C dX6_fewest_5 (by decide) ?_
    refine r_icmpge (pc := 7) (tgt := 30) C dX6_fewest_7 (by decide) h (fun h => ?_) (fun h => ?_)
    · refine r_pick (lv' := [(0, rv B a0), (1, .int z1)]) [0, 1] rfl ?_
      exact hK _ _ h
    · refine r_aload_n (pc := 10) (i := 0) C dX6_fewest_10 rfl rfl ?_
      refine r_iload_n (pc := 11) (i := 2) C dX6_fewest_11 rfl rfl ?_
      refine r_callVI (pc := 12) (As := [.int z2]) (st := []) C cs_X6_419_X6_setOffOf h (fun _ _ e => w_X6_setOffOf (Nat.le_refl 2) e) (fun _ _ e => t_X6_setOffOf e) (Nat.le_trans (Nat.le_of_ble_eq_true rfl) hd) (Nat.le_of_ble_eq_true rfl) dX6_fewest_12 (fun v2 σ1 h => ?_)
      refine r_ifeq (pc := 15) (tgt := 24) C dX6_fewest_15 (by decide) h (fun h => ?_) (fun h => ?_)
      · refine r_iinc (pc := 24) (i := 2) (v := (z2 + 1)) C dX6_fewest_24 rfl rfl (by decide) ?_
        refine r_goto (pc := 27) (tgt := 4) C dX6_fewest_27 (by decide) ?_
        refine r_pick (lv' := [(0, rv B a0), (1, .int z1), (2, .int (z2 + 1))]) [0, 1, 2] rfl ?_
        exact ih _ _ _ h
      · refine r_iload_n (pc := 18) (i := 1) C dX6_fewest_18 rfl rfl ?_
        refine r_iconst (pc := 19) (v := 1) C dX6_fewest_19 (by decide) ?_
        refine r_iload_n (pc := 20) (i := 2) C dX6_fewest_20 rfl rfl ?_
        refine r_ishl (pc := 21) C dX6_fewest_21 ?_
        refine r_ior (pc := 22) C dX6_fewest_22 ?_
        refine r_istore_n (pc := 23) (i := 1) C dX6_fewest_23 rfl (by decide) ?_
        refine r_iinc (pc := 24) (i := 2) (v := (z2 + 1)) C dX6_fewest_24 rfl rfl (by decide) ?_
        refine r_goto (pc := 27) (tgt := 4) C dX6_fewest_27 (by decide) ?_
        refine r_pick (lv' := [(0, rv B a0), (1, .int (z1 ||| ((1 : Int32) <<< (z2 &&& 31)))), (2, .int (z2 + 1))]) [0, 1, 2] rfl ?_
        exact ih _ _ _ h
theorem w_X6_fewest {B F : Nat} {d : Nat} {σ : MM} {a0 : Nat} {rf : Int32} {σf : MM} (hd : 4 ≤ d) (h : g_X6_fewest F σ a0 = some (rf, σf)) : xMA B yX6_fewest cX6_fewest 3 (some .int) d 0 0 [rv B a0] σ (some (.int rf)) σf := by
  refine xMA.of (by decide +kernel) (Nat.le_of_ble_eq_true rfl) (cat_rv cat_nil) (fun G C E => ?_)
  unfold g_X6_fewest at h
  obtain ⟨-, h⟩ := r_ck h
  refine r_iconst (pc := 0) (v := 0) C dX6_fewest_0 (by decide) ?_
  refine r_istore_n (pc := 1) (i := 1) C dX6_fewest_1 rfl (by decide) ?_
  refine r_iconst (pc := 2) (v := 0) C dX6_fewest_2 (by decide) ?_
  refine r_istore_n (pc := 3) (i := 2) C dX6_fewest_3 rfl (by decide) ?_
  refine r_pick (lv' := [(0, rv B a0), (1, .int 0), (2, .int 0)]) [0, 1, 2] rfl ?_
  refine wl_X6_fewest_4 hd C E (fun r1_4 σ3 h => ?_) _ _ _ _ h
  refine r_aload_n (pc := 30) (i := 0) C dX6_fewest_30 rfl rfl ?_
  refine r_callVV (pc := 31) (As := []) (st := []) C cs_X6_438_X6_laysGroups h (fun _ e => w_X6_laysGroups (Nat.le_refl 3) e) (fun _ e => t_X6_laysGroups e) (Nat.le_trans (Nat.le_of_ble_eq_true rfl) hd) (Nat.le_of_ble_eq_true rfl) dX6_fewest_31 (fun σ5 h => ?_)
  refine r_iload_n (pc := 34) (i := 1) C dX6_fewest_34 rfl rfl ?_
  refine r_callSI (pc := 35) (As := [.int r1_4]) (st := []) C cs_X6_431_X6_bits h (fun _ _ e => w_X6_bits (Nat.le_refl 0) e) (Nat.le_trans (Nat.le_of_ble_eq_true rfl) hd) (Nat.le_of_ble_eq_true rfl) dX6_fewest_35 (fun v7 σ6 h => ?_)
  refine r_aload_n (pc := 38) (i := 0) C dX6_fewest_38 rfl rfl ?_
  refine r_getP (pc := 39) C fd_X6_120 rfl dX6_fewest_39 h (fun p8 h => ?_)
  refine r_iload_n (pc := 42) (i := 1) C dX6_fewest_42 rfl rfl ?_
  refine r_iald (pc := 43) C dX6_fewest_43 h (fun v9 h => ?_)
  refine r_isub (pc := 44) C dX6_fewest_44 ?_
  exact r_iret (pc := 45) C rfl dX6_fewest_45 h E
theorem t_X6_fewest {F : Nat} {σ : MM} {a0 : Nat} {r : Int32 × MM} (h : g_X6_fewest F σ a0 = some r) : mT σ a0 = (5, 62) := by
  unfold g_X6_fewest at h
  exact (r_ck h).1
def l_X6_reachOf_2 (K : MM → Option (Int32 × MM)) (F : Nat) (a0 : Nat) (x1 : Int32) : Nat → Int32 → MM → Option (Int32 × MM)
  | 0, _, _ => none
  | f + 1, z2, σ => if z2 < 100 then ((gP σ a0 5 62 46).bind fun p1 => (gP σ a0 5 62 0).bind fun p2 => (aI σ p2 20 ((0 + z2))).bind fun v3 => (sI σ p1 z2 v3).bind fun σ4 => l_X6_reachOf_2 K F a0 x1 f ((z2 + 1)) σ4) else (K σ)
def g_X6_reachOf (F : Nat) (σ : MM) (a0 : Nat) (x1 : Int32) : Option (Int32 × MM) := if mT σ a0 = (5, 62) then (l_X6_reachOf_2 (fun (σ5 : MM) => bq (g_X6_reachLeft F σ5 a0 x1) fun v7 σ6 => some (v7, σ6)) F a0 x1 F 0 σ) else none
theorem wl_X6_reachOf_2 {B : Nat} {G : XG} {d : Nat} {rf : Int32} {σf : MM} (hd : 2 ≤ d) (C : xC B G yX6_reachOf cX6_reachOf 3 (some .int) d 0 0) (E : xEnd B G (some (.int rf)) σf 0 0) {K : MM → Option (Int32 × MM)} {F : Nat} {a0 : Nat} {x1 : Int32} (hK : ∀ (σ : MM), K σ = some (rf, σf) → xV B G 0 0 σ 28 [(0, rv B a0), (1, .int x1)] []) : ∀ (f : Nat) (z2 : Int32) (σ : MM), l_X6_reachOf_2 K F a0 x1 f z2 σ = some (rf, σf) → xV B G 0 0 σ 2 [(0, rv B a0), (1, .int x1), (2, .int z2)] [] := by
  intro f
  induction f with
  | zero =>
    intro z2 σ h
    have h : none = some (rf, σf) := h
    cases h
  | succ f ih =>
    intro z2 σ h
    rw [l_X6_reachOf_2.eq_2] at h
    refine r_iload_n (pc := 2) (i := 2) C dX6_reachOf_2 rfl rfl ?_
    refine r_bipush (pc := 3) (v := 100) C dX6_reachOf_3 (by decide) ?_
    refine r_icmpge (pc := 5) (tgt := 28) C dX6_reachOf_5 (by decide) h (fun h => ?_) (fun h => ?_)
    · refine r_pick (lv' := [(0, rv B a0), (1, .int x1)]) [0, 1] rfl ?_
      exact hK _ h
    · refine r_aload_n (pc := 8) (i := 0) C dX6_reachOf_8 rfl rfl ?_
      refine r_getP (pc := 9) C fd_X6_83 rfl dX6_reachOf_9 h (fun p1 h => ?_)
      refine r_iload_n (pc := 12) (i := 2) C dX6_reachOf_12 rfl rfl ?_
      refine r_aload_n (pc := 13) (i := 0) C dX6_reachOf_13 rfl rfl ?_
      refine r_getP (pc := 14) C fd_X6_7 rfl dX6_reachOf_14 h (fun p2 h => ?_)
      refine r_iconst (pc := 17) (v := 0) C dX6_reachOf_17 (by decide) ?_
      refine r_iload_n (pc := 18) (i := 2) C dX6_reachOf_18 rfl rfl ?_
      refine r_iadd (pc := 19) C dX6_reachOf_19 ?_
      refine r_iald (pc := 20) C dX6_reachOf_20 h (fun v3 h => ?_)
      refine r_iast (pc := 21) C dX6_reachOf_21 h (fun σ4 h => ?_)
      refine r_iinc (pc := 22) (i := 2) (v := (z2 + 1)) C dX6_reachOf_22 rfl rfl (by decide) ?_
      refine r_goto (pc := 25) (tgt := 2) C dX6_reachOf_25 (by decide) ?_
      refine r_pick (lv' := [(0, rv B a0), (1, .int x1), (2, .int (z2 + 1))]) [0, 1, 2] rfl ?_
      exact ih _ _ h
theorem w_X6_reachOf {B F : Nat} {d : Nat} {σ : MM} {a0 : Nat} {x1 : Int32} {rf : Int32} {σf : MM} (hd : 2 ≤ d) (h : g_X6_reachOf F σ a0 x1 = some (rf, σf)) : xMA B yX6_reachOf cX6_reachOf 3 (some .int) d 0 0 [rv B a0, .int x1] σ (some (.int rf)) σf := by
  refine xMA.of (by decide +kernel) (Nat.le_of_ble_eq_true rfl) (cat_rv (cat_int cat_nil)) (fun G C E => ?_)
  unfold g_X6_reachOf at h
  obtain ⟨-, h⟩ := r_ck h
  refine r_iconst (pc := 0) (v := 0) C dX6_reachOf_0 (by decide) ?_
  refine r_istore_n (pc := 1) (i := 2) C dX6_reachOf_1 rfl (by decide) ?_
  refine r_pick (lv' := [(0, rv B a0), (1, .int x1), (2, .int 0)]) [0, 1, 2] rfl ?_
  refine wl_X6_reachOf_2 hd C E (fun  σ5 h => ?_) _ _ _ h
  refine r_aload_n (pc := 28) (i := 0) C dX6_reachOf_28 rfl rfl ?_
  refine r_iload_n (pc := 29) (i := 1) C dX6_reachOf_29 rfl rfl ?_
  refine r_callVI (pc := 30) (As := [.int x1]) (st := []) C cs_X6_388_X6_reachLeft h (fun _ _ e => w_X6_reachLeft (Nat.le_refl 1) e) (fun _ _ e => t_X6_reachLeft e) (Nat.le_trans (Nat.le_of_ble_eq_true rfl) hd) (Nat.le_of_ble_eq_true rfl) dX6_reachOf_30 (fun v7 σ6 h => ?_)
  exact r_iret (pc := 33) C rfl dX6_reachOf_33 h E
theorem t_X6_reachOf {F : Nat} {σ : MM} {a0 : Nat} {x1 : Int32} {r : Int32 × MM} (h : g_X6_reachOf F σ a0 x1 = some r) : mT σ a0 = (5, 62) := by
  unfold g_X6_reachOf at h
  exact (r_ck h).1
theorem yd_X6_reachOf : xYd yX6_reachOf 1 := ⟨by decide +kernel, by decide +kernel, by decide +kernel⟩
theorem cs_X6_441_X6_reachOf : xCV RX6 441 yX6_reachOf cX6_reachOf 3 (some .int) 5 62 1 := ⟨by decide, by decide, _, rfl, yd_X6_reachOf, Or.inl ⟨rfl, lw_V q1838 q1840 qs112 q122 q1841⟩⟩
def l_X6_ringOf_11 (K : Int32 → MM → Option (Int32 × MM)) (F : Nat) (a0 : Nat) (x1 : Int32) (x3 : Int32) : Nat → Int32 → Int32 → MM → Option (Int32 × MM)
  | 0, _, _, _ => none
  | f + 1, z2, z4, σ => if z4 < 10 then (bq (g_X6_isPerson F σ a0 z4) fun v4 σ3 => if v4 = 0 then (l_X6_ringOf_11 K F a0 x1 x3 f z2 ((z4 + 1)) σ3) else (bq (g_X6_has F σ3 x3 z4) fun v6 σ5 => if v6 = 0 then (l_X6_ringOf_11 K F a0 x1 x3 f z2 ((z4 + 1)) σ5) else (bq (g_X6_reachOf F σ5 a0 z4) fun v8 σ7 => bq (g_X6_has F σ7 v8 x1) fun v10 σ9 => if v10 = 0 then (l_X6_ringOf_11 K F a0 x1 x3 f z2 ((z4 + 1)) σ9) else (l_X6_ringOf_11 K F a0 x1 x3 f ((z2 ||| ((1 : Int32) <<< (z4 &&& 31)))) ((z4 + 1)) σ9)))) else (K z2 σ)
def g_X6_ringOf (F : Nat) (σ : MM) (a0 : Nat) (x1 : Int32) : Option (Int32 × MM) := if mT σ a0 = (5, 62) then (bq (g_X6_reachOf F σ a0 x1) fun v2 σ1 => l_X6_ringOf_11 (fun (r2_12 : Int32) (σ11 : MM) => some (r2_12, σ11)) F a0 x1 v2 F 0 0 σ1) else none
theorem wl_X6_ringOf_11 {B : Nat} {G : XG} {d : Nat} {rf : Int32} {σf : MM} (hd : 3 ≤ d) (C : xC B G yX6_ringOf cX6_ringOf 5 (some .int) d 0 0) (E : xEnd B G (some (.int rf)) σf 0 0) {K : Int32 → MM → Option (Int32 × MM)} {F : Nat} {a0 : Nat} {x1 : Int32} {x3 : Int32} (hK : ∀ (q2 : Int32) (σ : MM), K q2 σ = some (rf, σf) → xV B G 0 0 σ 62 [(2, .int q2)] []) : ∀ (f : Nat) (z2 : Int32) (z4 : Int32) (σ : MM), l_X6_ringOf_11 K F a0 x1 x3 f z2 z4 σ = some (rf, σf) → xV B G 0 0 σ 11 [(0, rv B a0), (1, .int x1), (2, .int z2), (3, .int x3), (4, .int z4)] [] := by
  intro f
  induction f with
  | zero =>
    intro z2 z4 σ h
    have h : none = some (rf, σf) := h
    cases h
  | succ f ih =>
    intro z2 z4 σ h
    rw [l_X6_ringOf_11.eq_2] at h
    refine r_iload (pc := 11) (i := 4) C dX6_ringOf_11 rfl ?_
    refine r_bipush (pc := 13) (v := 10) C dX6_ringOf_13 (by decide) ?_
    refine r_icmpge (pc := 15) (tgt := 62) C dX6_ringOf_15 (by decide) h (fun h => ?_) (fun h => ?_)
    · refine r_pick (lv' := [(2, .int z2)]) [2] rfl ?_
      exact hK _ _ h
    · refine r_aload_n (pc := 18) (i := 0) C dX6_ringOf_18 rfl rfl ?_
      refine r_iload (pc := 19) (i := 4) C dX6_ringOf_19 rfl ?_
      refine r_callVI (pc := 21) (As := [.int z4]) (st := []) C cs_X6_135_X6_isPerson h (fun _ _ e => w_X6_isPerson (Nat.le_refl 1) e) (fun _ _ e => t_X6_isPerson e) (Nat.le_trans (Nat.le_of_ble_eq_true rfl) hd) (Nat.le_of_ble_eq_true rfl) dX6_ringOf_21 (fun v4 σ3 h => ?_)
      refine r_ifeq (pc := 24) (tgt := 56) C dX6_ringOf_24 (by decide) h (fun h => ?_) (fun h => ?_)
      · refine r_iinc (pc := 56) (i := 4) (v := (z4 + 1)) C dX6_ringOf_56 rfl rfl (by decide) ?_
        refine r_goto (pc := 59) (tgt := 11) C dX6_ringOf_59 (by decide) ?_
        refine r_pick (lv' := [(0, rv B a0), (1, .int x1), (2, .int z2), (3, .int x3), (4, .int (z4 + 1))]) [0, 1, 2, 3, 4] rfl ?_
        exact ih _ _ _ h
      · refine r_iload_n (pc := 27) (i := 3) C dX6_ringOf_27 rfl rfl ?_
        refine r_iload (pc := 28) (i := 4) C dX6_ringOf_28 rfl ?_
        refine r_callSI (pc := 30) (As := [.int x3, .int z4]) (st := []) C cs_X6_131_X6_has h (fun _ _ e => w_X6_has (Nat.le_refl 0) e) (Nat.le_trans (Nat.le_of_ble_eq_true rfl) hd) (Nat.le_of_ble_eq_true rfl) dX6_ringOf_30 (fun v6 σ5 h => ?_)
        refine r_ifeq (pc := 33) (tgt := 56) C dX6_ringOf_33 (by decide) h (fun h => ?_) (fun h => ?_)
        · refine r_iinc (pc := 56) (i := 4) (v := (z4 + 1)) C dX6_ringOf_56 rfl rfl (by decide) ?_
          refine r_goto (pc := 59) (tgt := 11) C dX6_ringOf_59 (by decide) ?_
          refine r_pick (lv' := [(0, rv B a0), (1, .int x1), (2, .int z2), (3, .int x3), (4, .int (z4 + 1))]) [0, 1, 2, 3, 4] rfl ?_
          exact ih _ _ _ h
        · refine r_aload_n (pc := 36) (i := 0) C dX6_ringOf_36 rfl rfl ?_
          refine r_iload (pc := 37) (i := 4) C dX6_ringOf_37 rfl ?_
          refine r_callVI (pc := 39) (As := [.int z4]) (st := []) C cs_X6_441_X6_reachOf h (fun _ _ e => w_X6_reachOf (Nat.le_refl 2) e) (fun _ _ e => t_X6_reachOf e) (Nat.le_trans (Nat.le_of_ble_eq_true rfl) hd) (Nat.le_of_ble_eq_true rfl) dX6_ringOf_39 (fun v8 σ7 h => ?_)
          refine r_iload_n (pc := 42) (i := 1) C dX6_ringOf_42 rfl rfl ?_
          refine r_callSI (pc := 43) (As := [.int v8, .int x1]) (st := []) C cs_X6_131_X6_has h (fun _ _ e => w_X6_has (Nat.le_refl 0) e) (Nat.le_trans (Nat.le_of_ble_eq_true rfl) hd) (Nat.le_of_ble_eq_true rfl) dX6_ringOf_43 (fun v10 σ9 h => ?_)
          refine r_ifeq (pc := 46) (tgt := 56) C dX6_ringOf_46 (by decide) h (fun h => ?_) (fun h => ?_)
          · refine r_iinc (pc := 56) (i := 4) (v := (z4 + 1)) C dX6_ringOf_56 rfl rfl (by decide) ?_
            refine r_goto (pc := 59) (tgt := 11) C dX6_ringOf_59 (by decide) ?_
            refine r_pick (lv' := [(0, rv B a0), (1, .int x1), (2, .int z2), (3, .int x3), (4, .int (z4 + 1))]) [0, 1, 2, 3, 4] rfl ?_
            exact ih _ _ _ h
          · refine r_iload_n (pc := 49) (i := 2) C dX6_ringOf_49 rfl rfl ?_
            refine r_iconst (pc := 50) (v := 1) C dX6_ringOf_50 (by decide) ?_
            refine r_iload (pc := 51) (i := 4) C dX6_ringOf_51 rfl ?_
            refine r_ishl (pc := 53) C dX6_ringOf_53 ?_
            refine r_ior (pc := 54) C dX6_ringOf_54 ?_
            refine r_istore_n (pc := 55) (i := 2) C dX6_ringOf_55 rfl (by decide) ?_
            refine r_iinc (pc := 56) (i := 4) (v := (z4 + 1)) C dX6_ringOf_56 rfl rfl (by decide) ?_
            refine r_goto (pc := 59) (tgt := 11) C dX6_ringOf_59 (by decide) ?_
            refine r_pick (lv' := [(0, rv B a0), (1, .int x1), (2, .int (z2 ||| ((1 : Int32) <<< (z4 &&& 31)))), (3, .int x3), (4, .int (z4 + 1))]) [0, 1, 2, 3, 4] rfl ?_
            exact ih _ _ _ h
theorem w_X6_ringOf {B F : Nat} {d : Nat} {σ : MM} {a0 : Nat} {x1 : Int32} {rf : Int32} {σf : MM} (hd : 3 ≤ d) (h : g_X6_ringOf F σ a0 x1 = some (rf, σf)) : xMA B yX6_ringOf cX6_ringOf 5 (some .int) d 0 0 [rv B a0, .int x1] σ (some (.int rf)) σf := by
  refine xMA.of (by decide +kernel) (Nat.le_of_ble_eq_true rfl) (cat_rv (cat_int cat_nil)) (fun G C E => ?_)
  unfold g_X6_ringOf at h
  obtain ⟨-, h⟩ := r_ck h
  refine r_iconst (pc := 0) (v := 0) C dX6_ringOf_0 (by decide) ?_
  refine r_istore_n (pc := 1) (i := 2) C dX6_ringOf_1 rfl (by decide) ?_
  refine r_aload_n (pc := 2) (i := 0) C dX6_ringOf_2 rfl rfl ?_
  refine r_iload_n (pc := 3) (i := 1) C dX6_ringOf_3 rfl rfl ?_
  refine r_callVI (pc := 4) (As := [.int x1]) (st := []) C cs_X6_441_X6_reachOf h (fun _ _ e => w_X6_reachOf (Nat.le_refl 2) e) (fun _ _ e => t_X6_reachOf e) (Nat.le_trans (Nat.le_of_ble_eq_true rfl) hd) (Nat.le_of_ble_eq_true rfl) dX6_ringOf_4 (fun v2 σ1 h => ?_)
  refine r_istore_n (pc := 7) (i := 3) C dX6_ringOf_7 rfl (by decide) ?_
  refine r_iconst (pc := 8) (v := 0) C dX6_ringOf_8 (by decide) ?_
  refine r_istore (pc := 9) (i := 4) C dX6_ringOf_9 (by decide) ?_
  refine r_pick (lv' := [(0, rv B a0), (1, .int x1), (2, .int 0), (3, .int v2), (4, .int 0)]) [0, 1, 2, 3, 4] rfl ?_
  refine wl_X6_ringOf_11 hd C E (fun r2_12 σ11 h => ?_) _ _ _ _ h
  refine r_iload_n (pc := 62) (i := 2) C dX6_ringOf_62 rfl rfl ?_
  exact r_iret (pc := 63) C rfl dX6_ringOf_63 h E
theorem t_X6_ringOf {F : Nat} {σ : MM} {a0 : Nat} {x1 : Int32} {r : Int32 × MM} (h : g_X6_ringOf F σ a0 x1 = some r) : mT σ a0 = (5, 62) := by
  unfold g_X6_ringOf at h
  exact (r_ck h).1
theorem yd_X6_ringOf : xYd yX6_ringOf 1 := ⟨by decide +kernel, by decide +kernel, by decide +kernel⟩
theorem cs_X6_444_X6_ringOf : xCV RX6 444 yX6_ringOf cX6_ringOf 5 (some .int) 5 62 1 := ⟨by decide, by decide, _, rfl, yd_X6_ringOf, Or.inl ⟨rfl, lw_V q1834 q1836 qs111 q122 q1837⟩⟩
def l_X6_rings_34 (K : Int32 → MM → Option (Int32 × MM)) (F : Nat) (a0 : Nat) : Nat → Int32 → Int32 → Int32 → MM → Option (Int32 × MM)
  | 0, _, _, _, _ => none
  | f + 1, z2, z3, z4, σ => if z4 < 10 then (bq (g_X6_has F σ z2 z4) fun v3 σ2 => if v3 = 0 then (l_X6_rings_34 K F a0 f z2 z3 ((z4 + 1)) σ2) else (bq (g_X6_ringOf F σ2 a0 z4) fun v5 σ4 => l_X6_rings_34 K F a0 f ((z2 &&& (v5 ^^^ (-1)))) ((z3 + 1)) ((z4 + 1)) σ4)) else (K z3 σ)
def g_X6_rings (F : Nat) (σ : MM) (a0 : Nat) (x1 : Int32) : Option (Int32 × MM) := if mT σ a0 = (5, 62) then (if x1 = 100 then ((gI σ a0 5 62 5).bind fun v1 => l_X6_rings_34 (fun (r3_7 : Int32) (σ6 : MM) => some (r3_7, σ6)) F a0 F v1 0 0 σ) else (bq (g_X6_isPerson F σ a0 x1) fun v9 σ8 => if v9 = 0 then (some ((-1), σ8)) else (bq (g_X6_ringOf F σ8 a0 x1) fun v11 σ10 => some (v11, σ10)))) else none
theorem wl_X6_rings_34 {B : Nat} {G : XG} {d : Nat} {rf : Int32} {σf : MM} (hd : 4 ≤ d) (C : xC B G yX6_rings cX6_rings 5 (some .int) d 0 0) (E : xEnd B G (some (.int rf)) σf 0 0) {K : Int32 → MM → Option (Int32 × MM)} {F : Nat} {a0 : Nat} (hK : ∀ (q3 : Int32) (σ : MM), K q3 σ = some (rf, σf) → xV B G 0 0 σ 74 [(3, .int q3)] []) : ∀ (f : Nat) (z2 : Int32) (z3 : Int32) (z4 : Int32) (σ : MM), l_X6_rings_34 K F a0 f z2 z3 z4 σ = some (rf, σf) → xV B G 0 0 σ 34 [(0, rv B a0), (2, .int z2), (3, .int z3), (4, .int z4)] [] := by
  intro f
  induction f with
  | zero =>
    intro z2 z3 z4 σ h
    have h : none = some (rf, σf) := h
    cases h
  | succ f ih =>
    intro z2 z3 z4 σ h
    rw [l_X6_rings_34.eq_2] at h
    refine r_iload (pc := 34) (i := 4) C dX6_rings_34 rfl ?_
    refine r_bipush (pc := 36) (v := 10) C dX6_rings_36 (by decide) ?_
    refine r_icmpge (pc := 38) (tgt := 74) C dX6_rings_38 (by decide) h (fun h => ?_) (fun h => ?_)
    · refine r_pick (lv' := [(3, .int z3)]) [3] rfl ?_
      exact hK _ _ h
    · refine r_iload_n (pc := 41) (i := 2) C dX6_rings_41 rfl rfl ?_
      refine r_iload (pc := 42) (i := 4) C dX6_rings_42 rfl ?_
      refine r_callSI (pc := 44) (As := [.int z2, .int z4]) (st := []) C cs_X6_131_X6_has h (fun _ _ e => w_X6_has (Nat.le_refl 0) e) (Nat.le_trans (Nat.le_of_ble_eq_true rfl) hd) (Nat.le_of_ble_eq_true rfl) dX6_rings_44 (fun v3 σ2 h => ?_)
      refine r_ifne (pc := 47) (tgt := 53) C dX6_rings_47 (by decide) h (fun h => ?_) (fun h => ?_)
      · refine r_iload_n (pc := 53) (i := 2) C dX6_rings_53 rfl rfl ?_
        refine r_aload_n (pc := 54) (i := 0) C dX6_rings_54 rfl rfl ?_
        refine r_iload (pc := 55) (i := 4) C dX6_rings_55 rfl ?_
        refine r_callVI (pc := 57) (As := [.int z4]) (st := [.int z2]) C cs_X6_444_X6_ringOf h (fun _ _ e => w_X6_ringOf (Nat.le_refl 3) e) (fun _ _ e => t_X6_ringOf e) (Nat.le_trans (Nat.le_of_ble_eq_true rfl) hd) (Nat.le_of_ble_eq_true rfl) dX6_rings_57 (fun v5 σ4 h => ?_)
        refine r_iconst (pc := 60) (v := (-1)) C dX6_rings_60 (by decide) ?_
        refine r_ixor (pc := 61) C dX6_rings_61 ?_
        refine r_iand (pc := 62) C dX6_rings_62 ?_
        refine r_istore_n (pc := 63) (i := 2) C dX6_rings_63 rfl (by decide) ?_
        refine r_iload_n (pc := 64) (i := 3) C dX6_rings_64 rfl rfl ?_
        refine r_iconst (pc := 65) (v := 1) C dX6_rings_65 (by decide) ?_
        refine r_iadd (pc := 66) C dX6_rings_66 ?_
        refine r_istore_n (pc := 67) (i := 3) C dX6_rings_67 rfl (by decide) ?_
        refine r_iinc (pc := 68) (i := 4) (v := (z4 + 1)) C dX6_rings_68 rfl rfl (by decide) ?_
        refine r_goto (pc := 71) (tgt := 34) C dX6_rings_71 (by decide) ?_
        refine r_pick (lv' := [(0, rv B a0), (2, .int (z2 &&& (v5 ^^^ (-1)))), (3, .int (z3 + 1)), (4, .int (z4 + 1))]) [0, 2, 3, 4] rfl ?_
        exact ih _ _ _ _ h
      · refine r_goto (pc := 50) (tgt := 68) C dX6_rings_50 (by decide) ?_
        refine r_iinc (pc := 68) (i := 4) (v := (z4 + 1)) C dX6_rings_68 rfl rfl (by decide) ?_
        refine r_goto (pc := 71) (tgt := 34) C dX6_rings_71 (by decide) ?_
        refine r_pick (lv' := [(0, rv B a0), (2, .int z2), (3, .int z3), (4, .int (z4 + 1))]) [0, 2, 3, 4] rfl ?_
        exact ih _ _ _ _ h
theorem w_X6_rings {B F : Nat} {d : Nat} {σ : MM} {a0 : Nat} {x1 : Int32} {rf : Int32} {σf : MM} (hd : 4 ≤ d) (h : g_X6_rings F σ a0 x1 = some (rf, σf)) : xMA B yX6_rings cX6_rings 5 (some .int) d 0 0 [rv B a0, .int x1] σ (some (.int rf)) σf := by
  refine xMA.of (by decide +kernel) (Nat.le_of_ble_eq_true rfl) (cat_rv (cat_int cat_nil)) (fun G C E => ?_)
  unfold g_X6_rings at h
  obtain ⟨-, h⟩ := r_ck h
  refine r_iload_n (pc := 0) (i := 1) C dX6_rings_0 rfl rfl ?_
  refine r_bipush (pc := 1) (v := 100) C dX6_rings_1 (by decide) ?_
  refine r_icmpeq (pc := 3) (tgt := 24) C dX6_rings_3 (by decide) h (fun h => ?_) (fun h => ?_)
  · refine r_aload_n (pc := 24) (i := 0) C dX6_rings_24 rfl rfl ?_
    refine r_getI (pc := 25) C fd_X6_127 rfl dX6_rings_25 h (fun v1 h => ?_)
    refine r_istore_n (pc := 28) (i := 2) C dX6_rings_28 rfl (by decide) ?_
    refine r_iconst (pc := 29) (v := 0) C dX6_rings_29 (by decide) ?_
    refine r_istore_n (pc := 30) (i := 3) C dX6_rings_30 rfl (by decide) ?_
    refine r_iconst (pc := 31) (v := 0) C dX6_rings_31 (by decide) ?_
    refine r_istore (pc := 32) (i := 4) C dX6_rings_32 (by decide) ?_
    refine r_pick (lv' := [(0, rv B a0), (2, .int v1), (3, .int 0), (4, .int 0)]) [0, 2, 3, 4] rfl ?_
    refine wl_X6_rings_34 hd C E (fun r3_7 σ6 h => ?_) _ _ _ _ _ h
    refine r_iload_n (pc := 74) (i := 3) C dX6_rings_74 rfl rfl ?_
    exact r_iret (pc := 75) C rfl dX6_rings_75 h E
  · refine r_aload_n (pc := 6) (i := 0) C dX6_rings_6 rfl rfl ?_
    refine r_iload_n (pc := 7) (i := 1) C dX6_rings_7 rfl rfl ?_
    refine r_callVI (pc := 8) (As := [.int x1]) (st := []) C cs_X6_135_X6_isPerson h (fun _ _ e => w_X6_isPerson (Nat.le_refl 1) e) (fun _ _ e => t_X6_isPerson e) (Nat.le_trans (Nat.le_of_ble_eq_true rfl) hd) (Nat.le_of_ble_eq_true rfl) dX6_rings_8 (fun v9 σ8 h => ?_)
    refine r_ifeq (pc := 11) (tgt := 22) C dX6_rings_11 (by decide) h (fun h => ?_) (fun h => ?_)
    · refine r_iconst (pc := 22) (v := (-1)) C dX6_rings_22 (by decide) ?_
      exact r_iret (pc := 23) C rfl dX6_rings_23 h E
    · refine r_aload_n (pc := 14) (i := 0) C dX6_rings_14 rfl rfl ?_
      refine r_iload_n (pc := 15) (i := 1) C dX6_rings_15 rfl rfl ?_
      refine r_callVI (pc := 16) (As := [.int x1]) (st := []) C cs_X6_444_X6_ringOf h (fun _ _ e => w_X6_ringOf (Nat.le_refl 3) e) (fun _ _ e => t_X6_ringOf e) (Nat.le_trans (Nat.le_of_ble_eq_true rfl) hd) (Nat.le_of_ble_eq_true rfl) dX6_rings_16 (fun v11 σ10 h => ?_)
      refine r_goto (pc := 19) (tgt := 23) C dX6_rings_19 (by decide) ?_
      exact r_iret (pc := 23) C rfl dX6_rings_23 h E
theorem t_X6_rings {F : Nat} {σ : MM} {a0 : Nat} {x1 : Int32} {r : Int32 × MM} (h : g_X6_rings F σ a0 x1 = some r) : mT σ a0 = (5, 62) := by
  unfold g_X6_rings at h
  exact (r_ck h).1
def g_X6_off (F : Nat) (σ : MM) (a0 : Nat) : Option (Int32 × MM) := if mT σ a0 = (5, 62) then ((gP σ a0 5 62 0).bind fun p1 => (aI σ p1 20 151).bind fun v2 => if v2 < 0 then (some ((-2), σ)) else ((gI σ a0 5 62 5).bind fun v3 => (gP σ a0 5 62 0).bind fun p4 => (aI σ p4 20 151).bind fun v5 => bq (g_X6_reachOf F σ a0 v5) fun v7 σ6 => some ((v3 &&& (v7 ^^^ (-1))), σ6))) else none
theorem w_X6_off {B F : Nat} {d : Nat} {σ : MM} {a0 : Nat} {rf : Int32} {σf : MM} (hd : 3 ≤ d) (h : g_X6_off F σ a0 = some (rf, σf)) : xMA B yX6_off cX6_off 1 (some .int) d 0 0 [rv B a0] σ (some (.int rf)) σf := by
  refine xMA.of (by decide +kernel) (Nat.le_of_ble_eq_true rfl) (cat_rv cat_nil) (fun G C E => ?_)
  unfold g_X6_off at h
  obtain ⟨-, h⟩ := r_ck h
  refine r_aload_n (pc := 0) (i := 0) C dX6_off_0 rfl rfl ?_
  refine r_getP (pc := 1) C fd_X6_7 rfl dX6_off_1 h (fun p1 h => ?_)
  refine r_sipush (pc := 4) (v := 151) C dX6_off_4 (by decide) ?_
  refine r_iald (pc := 7) C dX6_off_7 h (fun v2 h => ?_)
  refine r_ifge (pc := 8) (tgt := 16) C dX6_off_8 (by decide) h (fun h => ?_) (fun h => ?_)
  · refine r_aload_n (pc := 16) (i := 0) C dX6_off_16 rfl rfl ?_
    refine r_getI (pc := 17) C fd_X6_127 rfl dX6_off_17 h (fun v3 h => ?_)
    refine r_aload_n (pc := 20) (i := 0) C dX6_off_20 rfl rfl ?_
    refine r_aload_n (pc := 21) (i := 0) C dX6_off_21 rfl rfl ?_
    refine r_getP (pc := 22) C fd_X6_7 rfl dX6_off_22 h (fun p4 h => ?_)
    refine r_sipush (pc := 25) (v := 151) C dX6_off_25 (by decide) ?_
    refine r_iald (pc := 28) C dX6_off_28 h (fun v5 h => ?_)
    refine r_callVI (pc := 29) (As := [.int v5]) (st := [.int v3]) C cs_X6_441_X6_reachOf h (fun _ _ e => w_X6_reachOf (Nat.le_refl 2) e) (fun _ _ e => t_X6_reachOf e) (Nat.le_trans (Nat.le_of_ble_eq_true rfl) hd) (Nat.le_of_ble_eq_true rfl) dX6_off_29 (fun v7 σ6 h => ?_)
    refine r_iconst (pc := 32) (v := (-1)) C dX6_off_32 (by decide) ?_
    refine r_ixor (pc := 33) C dX6_off_33 ?_
    refine r_iand (pc := 34) C dX6_off_34 ?_
    exact r_iret (pc := 35) C rfl dX6_off_35 h E
  · refine r_bipush (pc := 11) (v := (-2)) C dX6_off_11 (by decide) ?_
    refine r_goto (pc := 13) (tgt := 35) C dX6_off_13 (by decide) ?_
    exact r_iret (pc := 35) C rfl dX6_off_35 h E
theorem t_X6_off {F : Nat} {σ : MM} {a0 : Nat} {r : Int32 × MM} (h : g_X6_off F σ a0 = some r) : mT σ a0 = (5, 62) := by
  unfold g_X6_off at h
  exact (r_ck h).1
def l_X6_when_56 (K : Int32 → MM → Option (Int32 × MM)) (F : Nat) (a0 : Nat) (x1 : Int32) (x2 : Int32) : Nat → Int32 → Int32 → MM → Option (Int32 × MM)
  | 0, _, _, _ => none
  | f + 1, z3, z4, σ => if x2 < z4 then (K z3 σ) else ((gP σ a0 5 62 0).bind fun p11 => (aI σ p11 20 156).bind fun v12 => if v12 < 9999 then (if z3 = (-2) then ((g_X6_hourGoes F σ a0).bind fun σ13 => (gI σ13 a0 5 62 35).bind fun v14 => if v14 = x1 then (l_X6_when_56 K F a0 x1 x2 f z4 ((z4 + 1)) σ13) else (l_X6_when_56 K F a0 x1 x2 f z3 ((z4 + 1)) σ13)) else (K z3 σ)) else (K z3 σ))
def g_X6_when (F : Nat) (σ : MM) (a0 : Nat) (x1 : Int32) (x2 : Int32) : Option (Int32 × MM) := if mT σ a0 = (5, 62) then (bq (g_X6_isPerson F σ a0 x1) fun v2 σ1 => if v2 = 0 then (some ((-1), σ1)) else (bq (g_X6_in F σ1 x2 1 240) fun v4 σ3 => if v4 = 0 then (some ((-1), σ3)) else ((gP σ3 a0 5 62 0).bind fun p5 => (aI σ3 p5 20 151).bind fun v6 => if v6 = x1 then (some (0, σ3)) else ((gP σ3 a0 5 62 0).bind fun p7 => (gP σ3 a0 5 62 1).bind fun p8 => (g_X6_copies F σ3 p7 p8).bind fun σ9 => (g_X6_begins F σ9 a0).bind fun σ10 => l_X6_when_56 (fun (r3_16 : Int32) (σ15 : MM) => (gP σ15 a0 5 62 1).bind fun p17 => (gP σ15 a0 5 62 0).bind fun p18 => (g_X6_copies F σ15 p17 p18).bind fun σ19 => some (r3_16, σ19)) F a0 x1 x2 F ((-2)) 1 σ10)))) else none
theorem wl_X6_when_56 {B : Nat} {G : XG} {d : Nat} {rf : Int32} {σf : MM} (hd : 7 ≤ d) (C : xC B G yX6_when cX6_when 5 (some .int) d 0 0) (E : xEnd B G (some (.int rf)) σf 0 0) {K : Int32 → MM → Option (Int32 × MM)} {F : Nat} {a0 : Nat} {x1 : Int32} {x2 : Int32} (hK : ∀ (q3 : Int32) (σ : MM), K q3 σ = some (rf, σf) → xV B G 0 0 σ 103 [(0, rv B a0), (3, .int q3)] []) : ∀ (f : Nat) (z3 : Int32) (z4 : Int32) (σ : MM), l_X6_when_56 K F a0 x1 x2 f z3 z4 σ = some (rf, σf) → xV B G 0 0 σ 56 [(0, rv B a0), (1, .int x1), (2, .int x2), (3, .int z3), (4, .int z4)] [] := by
  intro f
  induction f with
  | zero =>
    intro z3 z4 σ h
    have h : none = some (rf, σf) := h
    cases h
  | succ f ih =>
    intro z3 z4 σ h
    rw [l_X6_when_56.eq_2] at h
    refine r_iload (pc := 56) (i := 4) C dX6_when_56 rfl ?_
    refine r_iload_n (pc := 58) (i := 2) C dX6_when_58 rfl rfl ?_
    refine r_icmpgt (pc := 59) (tgt := 103) C dX6_when_59 (by decide) h (fun h => ?_) (fun h => ?_)
    · refine r_pick (lv' := [(0, rv B a0), (3, .int z3)]) [0, 3] rfl ?_
      exact hK _ _ h
    · refine r_aload_n (pc := 62) (i := 0) C dX6_when_62 rfl rfl ?_
      refine r_getP (pc := 63) C fd_X6_7 rfl dX6_when_63 h (fun p11 h => ?_)
      refine r_sipush (pc := 66) (v := 156) C dX6_when_66 (by decide) ?_
      refine r_iald (pc := 69) C dX6_when_69 h (fun v12 h => ?_)
      refine r_sipush (pc := 70) (v := 9999) C dX6_when_70 (by decide) ?_
      refine r_icmpge (pc := 73) (tgt := 103) C dX6_when_73 (by decide) h (fun h => ?_) (fun h => ?_)
      · refine r_pick (lv' := [(0, rv B a0), (3, .int z3)]) [0, 3] rfl ?_
        exact hK _ _ h
      · refine r_iload_n (pc := 76) (i := 3) C dX6_when_76 rfl rfl ?_
        refine r_bipush (pc := 77) (v := (-2)) C dX6_when_77 (by decide) ?_
        refine r_icmpne (pc := 79) (tgt := 103) C dX6_when_79 (by decide) h (fun h => ?_) (fun h => ?_)
        · refine r_pick (lv' := [(0, rv B a0), (3, .int z3)]) [0, 3] rfl ?_
          exact hK _ _ h
        · refine r_aload_n (pc := 82) (i := 0) C dX6_when_82 rfl rfl ?_
          refine r_callVV (pc := 83) (As := []) (st := []) C cs_X6_339_X6_hourGoes h (fun _ e => w_X6_hourGoes (Nat.le_refl 6) e) (fun _ e => t_X6_hourGoes e) (Nat.le_trans (Nat.le_of_ble_eq_true rfl) hd) (Nat.le_of_ble_eq_true rfl) dX6_when_83 (fun σ13 h => ?_)
          refine r_aload_n (pc := 86) (i := 0) C dX6_when_86 rfl rfl ?_
          refine r_getI (pc := 87) C fd_X6_321 rfl dX6_when_87 h (fun v14 h => ?_)
          refine r_iload_n (pc := 90) (i := 1) C dX6_when_90 rfl rfl ?_
          refine r_icmpne (pc := 91) (tgt := 97) C dX6_when_91 (by decide) h (fun h => ?_) (fun h => ?_)
          · refine r_iinc (pc := 97) (i := 4) (v := (z4 + 1)) C dX6_when_97 rfl rfl (by decide) ?_
            refine r_goto (pc := 100) (tgt := 56) C dX6_when_100 (by decide) ?_
            refine r_pick (lv' := [(0, rv B a0), (1, .int x1), (2, .int x2), (3, .int z3), (4, .int (z4 + 1))]) [0, 1, 2, 3, 4] rfl ?_
            exact ih _ _ _ h
          · refine r_iload (pc := 94) (i := 4) C dX6_when_94 rfl ?_
            refine r_istore_n (pc := 96) (i := 3) C dX6_when_96 rfl (by decide) ?_
            refine r_iinc (pc := 97) (i := 4) (v := (z4 + 1)) C dX6_when_97 rfl rfl (by decide) ?_
            refine r_goto (pc := 100) (tgt := 56) C dX6_when_100 (by decide) ?_
            refine r_pick (lv' := [(0, rv B a0), (1, .int x1), (2, .int x2), (3, .int z4), (4, .int (z4 + 1))]) [0, 1, 2, 3, 4] rfl ?_
            exact ih _ _ _ h
theorem w_X6_when {B F : Nat} {d : Nat} {σ : MM} {a0 : Nat} {x1 : Int32} {x2 : Int32} {rf : Int32} {σf : MM} (hd : 7 ≤ d) (h : g_X6_when F σ a0 x1 x2 = some (rf, σf)) : xMA B yX6_when cX6_when 5 (some .int) d 0 0 [rv B a0, .int x1, .int x2] σ (some (.int rf)) σf := by
  refine xMA.of (by decide +kernel) (Nat.le_of_ble_eq_true rfl) (cat_rv (cat_int (cat_int cat_nil))) (fun G C E => ?_)
  unfold g_X6_when at h
  obtain ⟨-, h⟩ := r_ck h
  refine r_aload_n (pc := 0) (i := 0) C dX6_when_0 rfl rfl ?_
  refine r_iload_n (pc := 1) (i := 1) C dX6_when_1 rfl rfl ?_
  refine r_callVI (pc := 2) (As := [.int x1]) (st := []) C cs_X6_135_X6_isPerson h (fun _ _ e => w_X6_isPerson (Nat.le_refl 1) e) (fun _ _ e => t_X6_isPerson e) (Nat.le_trans (Nat.le_of_ble_eq_true rfl) hd) (Nat.le_of_ble_eq_true rfl) dX6_when_2 (fun v2 σ1 h => ?_)
  refine r_ifeq (pc := 5) (tgt := 19) C dX6_when_5 (by decide) h (fun h => ?_) (fun h => ?_)
  · refine r_iconst (pc := 19) (v := (-1)) C dX6_when_19 (by decide) ?_
    exact r_iret (pc := 20) C rfl dX6_when_20 h E
  · refine r_iload_n (pc := 8) (i := 2) C dX6_when_8 rfl rfl ?_
    refine r_iconst (pc := 9) (v := 1) C dX6_when_9 (by decide) ?_
    refine r_sipush (pc := 10) (v := 240) C dX6_when_10 (by decide) ?_
    refine r_callSI (pc := 13) (As := [.int x2, .int 1, .int 240]) (st := []) C cs_X6_123_X6_in h (fun _ _ e => w_X6_in (Nat.le_refl 0) e) (Nat.le_trans (Nat.le_of_ble_eq_true rfl) hd) (Nat.le_of_ble_eq_true rfl) dX6_when_13 (fun v4 σ3 h => ?_)
    refine r_ifne (pc := 16) (tgt := 21) C dX6_when_16 (by decide) h (fun h => ?_) (fun h => ?_)
    · refine r_aload_n (pc := 21) (i := 0) C dX6_when_21 rfl rfl ?_
      refine r_getP (pc := 22) C fd_X6_7 rfl dX6_when_22 h (fun p5 h => ?_)
      refine r_sipush (pc := 25) (v := 151) C dX6_when_25 (by decide) ?_
      refine r_iald (pc := 28) C dX6_when_28 h (fun v6 h => ?_)
      refine r_iload_n (pc := 29) (i := 1) C dX6_when_29 rfl rfl ?_
      refine r_icmpne (pc := 30) (tgt := 35) C dX6_when_30 (by decide) h (fun h => ?_) (fun h => ?_)
      · refine r_aload_n (pc := 35) (i := 0) C dX6_when_35 rfl rfl ?_
        refine r_getP (pc := 36) C fd_X6_7 rfl dX6_when_36 h (fun p7 h => ?_)
        refine r_aload_n (pc := 39) (i := 0) C dX6_when_39 rfl rfl ?_
        refine r_getP (pc := 40) C fd_X6_13 rfl dX6_when_40 h (fun p8 h => ?_)
        refine r_callSV (pc := 43) (As := [rv B p7, rv B p8]) (st := []) C cs_X6_345_X6_copies h (fun _ e => w_X6_copies (Nat.le_refl 0) e) (Nat.le_trans (Nat.le_of_ble_eq_true rfl) hd) (Nat.le_of_ble_eq_true rfl) dX6_when_43 (fun σ9 h => ?_)
        refine r_aload_n (pc := 46) (i := 0) C dX6_when_46 rfl rfl ?_
        refine r_callVV (pc := 47) (As := []) (st := []) C cs_X6_336_X6_begins h (fun _ e => w_X6_begins (Nat.le_refl 0) e) (fun _ e => t_X6_begins e) (Nat.le_trans (Nat.le_of_ble_eq_true rfl) hd) (Nat.le_of_ble_eq_true rfl) dX6_when_47 (fun σ10 h => ?_)
        refine r_bipush (pc := 50) (v := (-2)) C dX6_when_50 (by decide) ?_
        refine r_istore_n (pc := 52) (i := 3) C dX6_when_52 rfl (by decide) ?_
        refine r_iconst (pc := 53) (v := 1) C dX6_when_53 (by decide) ?_
        refine r_istore (pc := 54) (i := 4) C dX6_when_54 (by decide) ?_
        refine r_pick (lv' := [(0, rv B a0), (1, .int x1), (2, .int x2), (3, .int (-2)), (4, .int 1)]) [0, 1, 2, 3, 4] rfl ?_
        refine wl_X6_when_56 hd C E (fun r3_16 σ15 h => ?_) _ _ _ _ h
        refine r_aload_n (pc := 103) (i := 0) C dX6_when_103 rfl rfl ?_
        refine r_getP (pc := 104) C fd_X6_13 rfl dX6_when_104 h (fun p17 h => ?_)
        refine r_aload_n (pc := 107) (i := 0) C dX6_when_107 rfl rfl ?_
        refine r_getP (pc := 108) C fd_X6_7 rfl dX6_when_108 h (fun p18 h => ?_)
        refine r_callSV (pc := 111) (As := [rv B p17, rv B p18]) (st := []) C cs_X6_345_X6_copies h (fun _ e => w_X6_copies (Nat.le_refl 0) e) (Nat.le_trans (Nat.le_of_ble_eq_true rfl) hd) (Nat.le_of_ble_eq_true rfl) dX6_when_111 (fun σ19 h => ?_)
        refine r_iload_n (pc := 114) (i := 3) C dX6_when_114 rfl rfl ?_
        exact r_iret (pc := 115) C rfl dX6_when_115 h E
      · refine r_iconst (pc := 33) (v := 0) C dX6_when_33 (by decide) ?_
        exact r_iret (pc := 34) C rfl dX6_when_34 h E
    · refine r_iconst (pc := 19) (v := (-1)) C dX6_when_19 (by decide) ?_
      exact r_iret (pc := 20) C rfl dX6_when_20 h E
theorem t_X6_when {F : Nat} {σ : MM} {a0 : Nat} {x1 : Int32} {x2 : Int32} {r : Int32 × MM} (h : g_X6_when F σ a0 x1 x2 = some r) : mT σ a0 = (5, 62) := by
  unfold g_X6_when at h
  exact (r_ck h).1
def l_X6_wedding_47 (K : Int32 → MM → Option (Int32 × MM)) (F : Nat) (a0 : Nat) (x1 : Int32) (x2 : Int32) (x3 : Int32) : Nat → Int32 → Int32 → Int32 → MM → Option (Int32 × MM)
  | 0, _, _, _, _ => none
  | f + 1, z4, z5, z6, σ => if z6 < x3 then ((gP σ a0 5 62 0).bind fun p9 => (aI σ p9 20 156).bind fun v10 => if v10 < 9999 then (if z4 = (-2) then ((gP σ a0 5 62 0).bind fun p11 => (aI σ p11 20 156).bind fun v12 => (gP σ a0 5 62 0).bind fun p13 => (aI σ p13 20 155).bind fun v14 => jn (fun (y5_16 : Int32) (σ15 : MM) => (g_X6_hourGoes F σ15 a0).bind fun σ18 => (gI σ18 a0 5 62 35).bind fun v19 => jn (fun (y5_21 : Int32) (σ20 : MM) => bq (g_X6_has F σ20 y5_21 x1) fun v24 σ23 => if v24 = 0 then (l_X6_wedding_47 K F a0 x1 x2 x3 f z4 y5_21 ((z6 + 1)) σ23) else (bq (g_X6_has F σ23 y5_21 x2) fun v26 σ25 => if v26 = 0 then (l_X6_wedding_47 K F a0 x1 x2 x3 f z4 y5_21 ((z6 + 1)) σ25) else (l_X6_wedding_47 K F a0 x1 x2 x3 f v12 y5_21 ((z6 + 1)) σ25))) (fun k22 => if v19 < 0 then (k22 y5_16 σ18) else ((gI σ18 a0 5 62 35).bind fun v27 => k22 ((y5_16 ||| ((1 : Int32) <<< (v27 &&& 31)))) σ18))) (fun k17 => if v14 = 0 then (k17 0 σ) else (k17 z5 σ))) else (K z4 σ)) else (K z4 σ)) else (K z4 σ)
def g_X6_wedding (F : Nat) (σ : MM) (a0 : Nat) (x1 : Int32) (x2 : Int32) (x3 : Int32) : Option (Int32 × MM) := if mT σ a0 = (5, 62) then (bq (g_X6_areTwo F σ a0 x1 x2) fun v2 σ1 => if v2 = 0 then (some ((-1), σ1)) else (bq (g_X6_in F σ1 x3 1 240) fun v4 σ3 => if v4 = 0 then (some ((-1), σ3)) else ((gP σ3 a0 5 62 0).bind fun p5 => (gP σ3 a0 5 62 1).bind fun p6 => (g_X6_copies F σ3 p5 p6).bind fun σ7 => (g_X6_begins F σ7 a0).bind fun σ8 => l_X6_wedding_47 (fun (r4_29 : Int32) (σ28 : MM) => (gP σ28 a0 5 62 1).bind fun p30 => (gP σ28 a0 5 62 0).bind fun p31 => (g_X6_copies F σ28 p30 p31).bind fun σ32 => some (r4_29, σ32)) F a0 x1 x2 x3 F ((-2)) 0 0 σ8))) else none
theorem wl_X6_wedding_47 {B : Nat} {G : XG} {d : Nat} {rf : Int32} {σf : MM} (hd : 7 ≤ d) (C : xC B G yX6_wedding cX6_wedding 8 (some .int) d 0 0) (E : xEnd B G (some (.int rf)) σf 0 0) {K : Int32 → MM → Option (Int32 × MM)} {F : Nat} {a0 : Nat} {x1 : Int32} {x2 : Int32} {x3 : Int32} (hK : ∀ (q4 : Int32) (σ : MM), K q4 σ = some (rf, σf) → xV B G 0 0 σ 148 [(0, rv B a0), (4, .int q4)] []) : ∀ (f : Nat) (z4 : Int32) (z5 : Int32) (z6 : Int32) (σ : MM), l_X6_wedding_47 K F a0 x1 x2 x3 f z4 z5 z6 σ = some (rf, σf) → xV B G 0 0 σ 47 [(0, rv B a0), (1, .int x1), (2, .int x2), (3, .int x3), (4, .int z4), (5, .int z5), (6, .int z6)] [] := by
  intro f
  induction f with
  | zero =>
    intro z4 z5 z6 σ h
    have h : none = some (rf, σf) := h
    cases h
  | succ f ih =>
    intro z4 z5 z6 σ h
    rw [l_X6_wedding_47.eq_2] at h
    refine r_iload (pc := 47) (i := 6) C dX6_wedding_47 rfl ?_
    refine r_iload_n (pc := 49) (i := 3) C dX6_wedding_49 rfl rfl ?_
    refine r_icmpge (pc := 50) (tgt := 148) C dX6_wedding_50 (by decide) h (fun h => ?_) (fun h => ?_)
    · refine r_pick (lv' := [(0, rv B a0), (4, .int z4)]) [0, 4] rfl ?_
      exact hK _ _ h
    · refine r_aload_n (pc := 53) (i := 0) C dX6_wedding_53 rfl rfl ?_
      refine r_getP (pc := 54) C fd_X6_7 rfl dX6_wedding_54 h (fun p9 h => ?_)
      refine r_sipush (pc := 57) (v := 156) C dX6_wedding_57 (by decide) ?_
      refine r_iald (pc := 60) C dX6_wedding_60 h (fun v10 h => ?_)
      refine r_sipush (pc := 61) (v := 9999) C dX6_wedding_61 (by decide) ?_
      refine r_icmpge (pc := 64) (tgt := 148) C dX6_wedding_64 (by decide) h (fun h => ?_) (fun h => ?_)
      · refine r_pick (lv' := [(0, rv B a0), (4, .int z4)]) [0, 4] rfl ?_
        exact hK _ _ h
      · refine r_iload (pc := 67) (i := 4) C dX6_wedding_67 rfl ?_
        refine r_bipush (pc := 69) (v := (-2)) C dX6_wedding_69 (by decide) ?_
        refine r_icmpne (pc := 71) (tgt := 148) C dX6_wedding_71 (by decide) h (fun h => ?_) (fun h => ?_)
        · refine r_pick (lv' := [(0, rv B a0), (4, .int z4)]) [0, 4] rfl ?_
          exact hK _ _ h
        · refine r_aload_n (pc := 74) (i := 0) C dX6_wedding_74 rfl rfl ?_
          refine r_getP (pc := 75) C fd_X6_7 rfl dX6_wedding_75 h (fun p11 h => ?_)
          refine r_sipush (pc := 78) (v := 156) C dX6_wedding_78 (by decide) ?_
          refine r_iald (pc := 81) C dX6_wedding_81 h (fun v12 h => ?_)
          refine r_istore (pc := 82) (i := 7) C dX6_wedding_82 (by decide) ?_
          refine r_aload_n (pc := 84) (i := 0) C dX6_wedding_84 rfl rfl ?_
          refine r_getP (pc := 85) C fd_X6_7 rfl dX6_wedding_85 h (fun p13 h => ?_)
          refine r_sipush (pc := 88) (v := 155) C dX6_wedding_88 (by decide) ?_
          refine r_iald (pc := 91) C dX6_wedding_91 h (fun v14 h => ?_)
          refine r_jn (fun k9 => ∀ (y5_16 : Int32) (σ15 : MM), k9 y5_16 σ15 = some (rf, σf) → xV B G 0 0 σ15 98 [(0, rv B a0), (1, .int x1), (2, .int x2), (3, .int x3), (4, .int z4), (5, .int y5_16), (6, .int z6), (7, .int v12)] []) h (fun y5_16 σ15 h => ?_) (fun k17 hk17 h => ?_)
          · refine r_aload_n (pc := 98) (i := 0) C dX6_wedding_98 rfl rfl ?_
            refine r_callVV (pc := 99) (As := []) (st := []) C cs_X6_339_X6_hourGoes h (fun _ e => w_X6_hourGoes (Nat.le_refl 6) e) (fun _ e => t_X6_hourGoes e) (Nat.le_trans (Nat.le_of_ble_eq_true rfl) hd) (Nat.le_of_ble_eq_true rfl) dX6_wedding_99 (fun σ18 h => ?_)
            refine r_aload_n (pc := 102) (i := 0) C dX6_wedding_102 rfl rfl ?_
            refine r_getI (pc := 103) C fd_X6_321 rfl dX6_wedding_103 h (fun v19 h => ?_)
            refine r_jn (fun k9 => ∀ (y5_21 : Int32) (σ20 : MM), k9 y5_21 σ20 = some (rf, σf) → xV B G 0 0 σ20 120 [(0, rv B a0), (1, .int x1), (2, .int x2), (3, .int x3), (4, .int z4), (5, .int y5_21), (6, .int z6), (7, .int v12)] []) h (fun y5_21 σ20 h => ?_) (fun k22 hk22 h => ?_)
            · refine r_iload (pc := 120) (i := 5) C dX6_wedding_120 rfl ?_
              refine r_iload_n (pc := 122) (i := 1) C dX6_wedding_122 rfl rfl ?_
              refine r_callSI (pc := 123) (As := [.int y5_21, .int x1]) (st := []) C cs_X6_131_X6_has h (fun _ _ e => w_X6_has (Nat.le_refl 0) e) (Nat.le_trans (Nat.le_of_ble_eq_true rfl) hd) (Nat.le_of_ble_eq_true rfl) dX6_wedding_123 (fun v24 σ23 h => ?_)
              refine r_ifeq (pc := 126) (tgt := 142) C dX6_wedding_126 (by decide) h (fun h => ?_) (fun h => ?_)
              · refine r_iinc (pc := 142) (i := 6) (v := (z6 + 1)) C dX6_wedding_142 rfl rfl (by decide) ?_
                refine r_goto (pc := 145) (tgt := 47) C dX6_wedding_145 (by decide) ?_
                refine r_pick (lv' := [(0, rv B a0), (1, .int x1), (2, .int x2), (3, .int x3), (4, .int z4), (5, .int y5_21), (6, .int (z6 + 1))]) [0, 1, 2, 3, 4, 5, 6] rfl ?_
                exact ih _ _ _ _ h
              · refine r_iload (pc := 129) (i := 5) C dX6_wedding_129 rfl ?_
                refine r_iload_n (pc := 131) (i := 2) C dX6_wedding_131 rfl rfl ?_
                refine r_callSI (pc := 132) (As := [.int y5_21, .int x2]) (st := []) C cs_X6_131_X6_has h (fun _ _ e => w_X6_has (Nat.le_refl 0) e) (Nat.le_trans (Nat.le_of_ble_eq_true rfl) hd) (Nat.le_of_ble_eq_true rfl) dX6_wedding_132 (fun v26 σ25 h => ?_)
                refine r_ifeq (pc := 135) (tgt := 142) C dX6_wedding_135 (by decide) h (fun h => ?_) (fun h => ?_)
                · refine r_iinc (pc := 142) (i := 6) (v := (z6 + 1)) C dX6_wedding_142 rfl rfl (by decide) ?_
                  refine r_goto (pc := 145) (tgt := 47) C dX6_wedding_145 (by decide) ?_
                  refine r_pick (lv' := [(0, rv B a0), (1, .int x1), (2, .int x2), (3, .int x3), (4, .int z4), (5, .int y5_21), (6, .int (z6 + 1))]) [0, 1, 2, 3, 4, 5, 6] rfl ?_
                  exact ih _ _ _ _ h
                · refine r_iload (pc := 138) (i := 7) C dX6_wedding_138 rfl ?_
                  refine r_istore (pc := 140) (i := 4) C dX6_wedding_140 (by decide) ?_
                  refine r_iinc (pc := 142) (i := 6) (v := (z6 + 1)) C dX6_wedding_142 rfl rfl (by decide) ?_
                  refine r_goto (pc := 145) (tgt := 47) C dX6_wedding_145 (by decide) ?_
                  refine r_pick (lv' := [(0, rv B a0), (1, .int x1), (2, .int x2), (3, .int x3), (4, .int v12), (5, .int y5_21), (6, .int (z6 + 1))]) [0, 1, 2, 3, 4, 5, 6] rfl ?_
                  exact ih _ _ _ _ h
            · refine r_iflt (pc := 106) (tgt := 120) C dX6_wedding_106 (by decide) h (fun h => ?_) (fun h => ?_)
              · refine r_pick (lv' := [(0, rv B a0), (1, .int x1), (2, .int x2), (3, .int x3), (4, .int z4), (5, .int y5_16), (6, .int z6), (7, .int v12)]) [0, 1, 2, 3, 4, 5, 6, 7] rfl ?_
                exact hk22 _ _ h
              · refine r_iload (pc := 109) (i := 5) C dX6_wedding_109 rfl ?_
                refine r_iconst (pc := 111) (v := 1) C dX6_wedding_111 (by decide) ?_
                refine r_aload_n (pc := 112) (i := 0) C dX6_wedding_112 rfl rfl ?_
                refine r_getI (pc := 113) C fd_X6_321 rfl dX6_wedding_113 h (fun v27 h => ?_)
                refine r_ishl (pc := 116) C dX6_wedding_116 ?_
                refine r_ior (pc := 117) C dX6_wedding_117 ?_
                refine r_istore (pc := 118) (i := 5) C dX6_wedding_118 (by decide) ?_
                refine r_pick (lv' := [(0, rv B a0), (1, .int x1), (2, .int x2), (3, .int x3), (4, .int z4), (5, .int (y5_16 ||| ((1 : Int32) <<< (v27 &&& 31)))), (6, .int z6), (7, .int v12)]) [0, 1, 2, 3, 4, 5, 6, 7] rfl ?_
                exact hk22 _ _ h
          · refine r_ifne (pc := 92) (tgt := 98) C dX6_wedding_92 (by decide) h (fun h => ?_) (fun h => ?_)
            · refine r_pick (lv' := [(0, rv B a0), (1, .int x1), (2, .int x2), (3, .int x3), (4, .int z4), (5, .int z5), (6, .int z6), (7, .int v12)]) [0, 1, 2, 3, 4, 5, 6, 7] rfl ?_
              exact hk17 _ _ h
            · refine r_iconst (pc := 95) (v := 0) C dX6_wedding_95 (by decide) ?_
              refine r_istore (pc := 96) (i := 5) C dX6_wedding_96 (by decide) ?_
              refine r_pick (lv' := [(0, rv B a0), (1, .int x1), (2, .int x2), (3, .int x3), (4, .int z4), (5, .int 0), (6, .int z6), (7, .int v12)]) [0, 1, 2, 3, 4, 5, 6, 7] rfl ?_
              exact hk17 _ _ h
theorem w_X6_wedding {B F : Nat} {d : Nat} {σ : MM} {a0 : Nat} {x1 : Int32} {x2 : Int32} {x3 : Int32} {rf : Int32} {σf : MM} (hd : 7 ≤ d) (h : g_X6_wedding F σ a0 x1 x2 x3 = some (rf, σf)) : xMA B yX6_wedding cX6_wedding 8 (some .int) d 0 0 [rv B a0, .int x1, .int x2, .int x3] σ (some (.int rf)) σf := by
  refine xMA.of (by decide +kernel) (Nat.le_of_ble_eq_true rfl) (cat_rv (cat_int (cat_int (cat_int cat_nil)))) (fun G C E => ?_)
  unfold g_X6_wedding at h
  obtain ⟨-, h⟩ := r_ck h
  refine r_aload_n (pc := 0) (i := 0) C dX6_wedding_0 rfl rfl ?_
  refine r_iload_n (pc := 1) (i := 1) C dX6_wedding_1 rfl rfl ?_
  refine r_iload_n (pc := 2) (i := 2) C dX6_wedding_2 rfl rfl ?_
  refine r_callVI (pc := 3) (As := [.int x1, .int x2]) (st := []) C cs_X6_153_X6_areTwo h (fun _ _ e => w_X6_areTwo (Nat.le_refl 2) e) (fun _ _ e => t_X6_areTwo e) (Nat.le_trans (Nat.le_of_ble_eq_true rfl) hd) (Nat.le_of_ble_eq_true rfl) dX6_wedding_3 (fun v2 σ1 h => ?_)
  refine r_ifeq (pc := 6) (tgt := 20) C dX6_wedding_6 (by decide) h (fun h => ?_) (fun h => ?_)
  · refine r_iconst (pc := 20) (v := (-1)) C dX6_wedding_20 (by decide) ?_
    exact r_iret (pc := 21) C rfl dX6_wedding_21 h E
  · refine r_iload_n (pc := 9) (i := 3) C dX6_wedding_9 rfl rfl ?_
    refine r_iconst (pc := 10) (v := 1) C dX6_wedding_10 (by decide) ?_
    refine r_sipush (pc := 11) (v := 240) C dX6_wedding_11 (by decide) ?_
    refine r_callSI (pc := 14) (As := [.int x3, .int 1, .int 240]) (st := []) C cs_X6_123_X6_in h (fun _ _ e => w_X6_in (Nat.le_refl 0) e) (Nat.le_trans (Nat.le_of_ble_eq_true rfl) hd) (Nat.le_of_ble_eq_true rfl) dX6_wedding_14 (fun v4 σ3 h => ?_)
    refine r_ifne (pc := 17) (tgt := 22) C dX6_wedding_17 (by decide) h (fun h => ?_) (fun h => ?_)
    · refine r_aload_n (pc := 22) (i := 0) C dX6_wedding_22 rfl rfl ?_
      refine r_getP (pc := 23) C fd_X6_7 rfl dX6_wedding_23 h (fun p5 h => ?_)
      refine r_aload_n (pc := 26) (i := 0) C dX6_wedding_26 rfl rfl ?_
      refine r_getP (pc := 27) C fd_X6_13 rfl dX6_wedding_27 h (fun p6 h => ?_)
      refine r_callSV (pc := 30) (As := [rv B p5, rv B p6]) (st := []) C cs_X6_345_X6_copies h (fun _ e => w_X6_copies (Nat.le_refl 0) e) (Nat.le_trans (Nat.le_of_ble_eq_true rfl) hd) (Nat.le_of_ble_eq_true rfl) dX6_wedding_30 (fun σ7 h => ?_)
      refine r_aload_n (pc := 33) (i := 0) C dX6_wedding_33 rfl rfl ?_
      refine r_callVV (pc := 34) (As := []) (st := []) C cs_X6_336_X6_begins h (fun _ e => w_X6_begins (Nat.le_refl 0) e) (fun _ e => t_X6_begins e) (Nat.le_trans (Nat.le_of_ble_eq_true rfl) hd) (Nat.le_of_ble_eq_true rfl) dX6_wedding_34 (fun σ8 h => ?_)
      refine r_bipush (pc := 37) (v := (-2)) C dX6_wedding_37 (by decide) ?_
      refine r_istore (pc := 39) (i := 4) C dX6_wedding_39 (by decide) ?_
      refine r_iconst (pc := 41) (v := 0) C dX6_wedding_41 (by decide) ?_
      refine r_istore (pc := 42) (i := 5) C dX6_wedding_42 (by decide) ?_
      refine r_iconst (pc := 44) (v := 0) C dX6_wedding_44 (by decide) ?_
      refine r_istore (pc := 45) (i := 6) C dX6_wedding_45 (by decide) ?_
      refine r_pick (lv' := [(0, rv B a0), (1, .int x1), (2, .int x2), (3, .int x3), (4, .int (-2)), (5, .int 0), (6, .int 0)]) [0, 1, 2, 3, 4, 5, 6] rfl ?_
      refine wl_X6_wedding_47 hd C E (fun r4_29 σ28 h => ?_) _ _ _ _ _ h
      refine r_aload_n (pc := 148) (i := 0) C dX6_wedding_148 rfl rfl ?_
      refine r_getP (pc := 149) C fd_X6_13 rfl dX6_wedding_149 h (fun p30 h => ?_)
      refine r_aload_n (pc := 152) (i := 0) C dX6_wedding_152 rfl rfl ?_
      refine r_getP (pc := 153) C fd_X6_7 rfl dX6_wedding_153 h (fun p31 h => ?_)
      refine r_callSV (pc := 156) (As := [rv B p30, rv B p31]) (st := []) C cs_X6_345_X6_copies h (fun _ e => w_X6_copies (Nat.le_refl 0) e) (Nat.le_trans (Nat.le_of_ble_eq_true rfl) hd) (Nat.le_of_ble_eq_true rfl) dX6_wedding_156 (fun σ32 h => ?_)
      refine r_iload (pc := 159) (i := 4) C dX6_wedding_159 rfl ?_
      exact r_iret (pc := 161) C rfl dX6_wedding_161 h E
    · refine r_iconst (pc := 20) (v := (-1)) C dX6_wedding_20 (by decide) ?_
      exact r_iret (pc := 21) C rfl dX6_wedding_21 h E
theorem t_X6_wedding {F : Nat} {σ : MM} {a0 : Nat} {x1 : Int32} {x2 : Int32} {x3 : Int32} {r : Int32 × MM} (h : g_X6_wedding F σ a0 x1 x2 x3 = some r) : mT σ a0 = (5, 62) := by
  unfold g_X6_wedding at h
  exact (r_ck h).1
def l_X6_longest_7 (K : Int32 → MM → Option (Int32 × MM)) (F : Nat) (a0 : Nat) : Nat → Int32 → Int32 → Int32 → MM → Option (Int32 × MM)
  | 0, _, _, _, _ => none
  | f + 1, z1, z2, z3, σ => if z3 < 10 then (bq (g_X6_isPerson F σ a0 z3) fun v2 σ1 => if v2 = 0 then (l_X6_longest_7 K F a0 f z1 z2 ((z3 + 1)) σ1) else ((gP σ1 a0 5 62 0).bind fun p3 => (aI σ1 p3 20 ((100 + z3))).bind fun v4 => if z2 < v4 then ((gP σ1 a0 5 62 0).bind fun p5 => (aI σ1 p5 20 ((100 + z3))).bind fun v6 => l_X6_longest_7 K F a0 f z3 v6 ((z3 + 1)) σ1) else (l_X6_longest_7 K F a0 f z1 z2 ((z3 + 1)) σ1))) else (K z1 σ)
def g_X6_longest (F : Nat) (σ : MM) (a0 : Nat) : Option (Int32 × MM) := if mT σ a0 = (5, 62) then (l_X6_longest_7 (fun (r1_8 : Int32) (σ7 : MM) => some (r1_8, σ7)) F a0 F ((-2)) 0 0 σ) else none
theorem wl_X6_longest_7 {B : Nat} {G : XG} {d : Nat} {rf : Int32} {σf : MM} (hd : 2 ≤ d) (C : xC B G yX6_longest cX6_longest 4 (some .int) d 0 0) (E : xEnd B G (some (.int rf)) σf 0 0) {K : Int32 → MM → Option (Int32 × MM)} {F : Nat} {a0 : Nat} (hK : ∀ (q1 : Int32) (σ : MM), K q1 σ = some (rf, σf) → xV B G 0 0 σ 55 [(1, .int q1)] []) : ∀ (f : Nat) (z1 : Int32) (z2 : Int32) (z3 : Int32) (σ : MM), l_X6_longest_7 K F a0 f z1 z2 z3 σ = some (rf, σf) → xV B G 0 0 σ 7 [(0, rv B a0), (1, .int z1), (2, .int z2), (3, .int z3)] [] := by
  intro f
  induction f with
  | zero =>
    intro z1 z2 z3 σ h
    have h : none = some (rf, σf) := h
    cases h
  | succ f ih =>
    intro z1 z2 z3 σ h
    rw [l_X6_longest_7.eq_2] at h
    refine r_iload_n (pc := 7) (i := 3) C dX6_longest_7 rfl rfl ?_
    refine r_bipush (pc := 8) (v := 10) C dX6_longest_8 (by decide) ?_
    refine r_icmpge (pc := 10) (tgt := 55) C dX6_longest_10 (by decide) h (fun h => ?_) (fun h => ?_)
    · refine r_pick (lv' := [(1, .int z1)]) [1] rfl ?_
      exact hK _ _ h
    · refine r_aload_n (pc := 13) (i := 0) C dX6_longest_13 rfl rfl ?_
      refine r_iload_n (pc := 14) (i := 3) C dX6_longest_14 rfl rfl ?_
      refine r_callVI (pc := 15) (As := [.int z3]) (st := []) C cs_X6_135_X6_isPerson h (fun _ _ e => w_X6_isPerson (Nat.le_refl 1) e) (fun _ _ e => t_X6_isPerson e) (Nat.le_trans (Nat.le_of_ble_eq_true rfl) hd) (Nat.le_of_ble_eq_true rfl) dX6_longest_15 (fun v2 σ1 h => ?_)
      refine r_ifeq (pc := 18) (tgt := 49) C dX6_longest_18 (by decide) h (fun h => ?_) (fun h => ?_)
      · refine r_iinc (pc := 49) (i := 3) (v := (z3 + 1)) C dX6_longest_49 rfl rfl (by decide) ?_
        refine r_goto (pc := 52) (tgt := 7) C dX6_longest_52 (by decide) ?_
        refine r_pick (lv' := [(0, rv B a0), (1, .int z1), (2, .int z2), (3, .int (z3 + 1))]) [0, 1, 2, 3] rfl ?_
        exact ih _ _ _ _ h
      · refine r_aload_n (pc := 21) (i := 0) C dX6_longest_21 rfl rfl ?_
        refine r_getP (pc := 22) C fd_X6_7 rfl dX6_longest_22 h (fun p3 h => ?_)
        refine r_bipush (pc := 25) (v := 100) C dX6_longest_25 (by decide) ?_
        refine r_iload_n (pc := 27) (i := 3) C dX6_longest_27 rfl rfl ?_
        refine r_iadd (pc := 28) C dX6_longest_28 ?_
        refine r_iald (pc := 29) C dX6_longest_29 h (fun v4 h => ?_)
        refine r_iload_n (pc := 30) (i := 2) C dX6_longest_30 rfl rfl ?_
        refine r_icmpgt (pc := 31) (tgt := 37) C dX6_longest_31 (by decide) h (fun h => ?_) (fun h => ?_)
        · refine r_aload_n (pc := 37) (i := 0) C dX6_longest_37 rfl rfl ?_
          refine r_getP (pc := 38) C fd_X6_7 rfl dX6_longest_38 h (fun p5 h => ?_)
          refine r_bipush (pc := 41) (v := 100) C dX6_longest_41 (by decide) ?_
          refine r_iload_n (pc := 43) (i := 3) C dX6_longest_43 rfl rfl ?_
          refine r_iadd (pc := 44) C dX6_longest_44 ?_
          refine r_iald (pc := 45) C dX6_longest_45 h (fun v6 h => ?_)
          refine r_istore_n (pc := 46) (i := 2) C dX6_longest_46 rfl (by decide) ?_
          refine r_iload_n (pc := 47) (i := 3) C dX6_longest_47 rfl rfl ?_
          refine r_istore_n (pc := 48) (i := 1) C dX6_longest_48 rfl (by decide) ?_
          refine r_iinc (pc := 49) (i := 3) (v := (z3 + 1)) C dX6_longest_49 rfl rfl (by decide) ?_
          refine r_goto (pc := 52) (tgt := 7) C dX6_longest_52 (by decide) ?_
          refine r_pick (lv' := [(0, rv B a0), (1, .int z3), (2, .int v6), (3, .int (z3 + 1))]) [0, 1, 2, 3] rfl ?_
          exact ih _ _ _ _ h
        · refine r_goto (pc := 34) (tgt := 49) C dX6_longest_34 (by decide) ?_
          refine r_iinc (pc := 49) (i := 3) (v := (z3 + 1)) C dX6_longest_49 rfl rfl (by decide) ?_
          refine r_goto (pc := 52) (tgt := 7) C dX6_longest_52 (by decide) ?_
          refine r_pick (lv' := [(0, rv B a0), (1, .int z1), (2, .int z2), (3, .int (z3 + 1))]) [0, 1, 2, 3] rfl ?_
          exact ih _ _ _ _ h
theorem w_X6_longest {B F : Nat} {d : Nat} {σ : MM} {a0 : Nat} {rf : Int32} {σf : MM} (hd : 2 ≤ d) (h : g_X6_longest F σ a0 = some (rf, σf)) : xMA B yX6_longest cX6_longest 4 (some .int) d 0 0 [rv B a0] σ (some (.int rf)) σf := by
  refine xMA.of (by decide +kernel) (Nat.le_of_ble_eq_true rfl) (cat_rv cat_nil) (fun G C E => ?_)
  unfold g_X6_longest at h
  obtain ⟨-, h⟩ := r_ck h
  refine r_bipush (pc := 0) (v := (-2)) C dX6_longest_0 (by decide) ?_
  refine r_istore_n (pc := 2) (i := 1) C dX6_longest_2 rfl (by decide) ?_
  refine r_iconst (pc := 3) (v := 0) C dX6_longest_3 (by decide) ?_
  refine r_istore_n (pc := 4) (i := 2) C dX6_longest_4 rfl (by decide) ?_
  refine r_iconst (pc := 5) (v := 0) C dX6_longest_5 (by decide) ?_
  refine r_istore_n (pc := 6) (i := 3) C dX6_longest_6 rfl (by decide) ?_
  refine r_pick (lv' := [(0, rv B a0), (1, .int (-2)), (2, .int 0), (3, .int 0)]) [0, 1, 2, 3] rfl ?_
  refine wl_X6_longest_7 hd C E (fun r1_8 σ7 h => ?_) _ _ _ _ _ h
  refine r_iload_n (pc := 55) (i := 1) C dX6_longest_55 rfl rfl ?_
  exact r_iret (pc := 56) C rfl dX6_longest_56 h E
theorem t_X6_longest {F : Nat} {σ : MM} {a0 : Nat} {r : Int32 × MM} (h : g_X6_longest F σ a0 = some r) : mT σ a0 = (5, 62) := by
  unfold g_X6_longest at h
  exact (r_ck h).1
def g_X6_chalk (F : Nat) (σ : MM) (a0 : Nat) (x1 : Int32) : Option (Int32 × MM) := if mT σ a0 = (5, 62) then ((gP σ a0 5 62 0).bind fun p1 => (aI σ p1 20 150).bind fun v2 => bq (g_X6_in F σ x1 0 ((v2 - 1))) fun v4 σ3 => if v4 = 0 then (some ((-1), σ3)) else ((gP σ3 a0 5 62 0).bind fun p5 => (aI σ3 p5 20 ((110 + x1))).bind fun v6 => some (v6, σ3))) else none
theorem w_X6_chalk {B F : Nat} {d : Nat} {σ : MM} {a0 : Nat} {x1 : Int32} {rf : Int32} {σf : MM} (hd : 1 ≤ d) (h : g_X6_chalk F σ a0 x1 = some (rf, σf)) : xMA B yX6_chalk cX6_chalk 2 (some .int) d 0 0 [rv B a0, .int x1] σ (some (.int rf)) σf := by
  refine xMA.of (by decide +kernel) (Nat.le_of_ble_eq_true rfl) (cat_rv (cat_int cat_nil)) (fun G C E => ?_)
  unfold g_X6_chalk at h
  obtain ⟨-, h⟩ := r_ck h
  refine r_iload_n (pc := 0) (i := 1) C dX6_chalk_0 rfl rfl ?_
  refine r_iconst (pc := 1) (v := 0) C dX6_chalk_1 (by decide) ?_
  refine r_aload_n (pc := 2) (i := 0) C dX6_chalk_2 rfl rfl ?_
  refine r_getP (pc := 3) C fd_X6_7 rfl dX6_chalk_3 h (fun p1 h => ?_)
  refine r_sipush (pc := 6) (v := 150) C dX6_chalk_6 (by decide) ?_
  refine r_iald (pc := 9) C dX6_chalk_9 h (fun v2 h => ?_)
  refine r_iconst (pc := 10) (v := 1) C dX6_chalk_10 (by decide) ?_
  refine r_isub (pc := 11) C dX6_chalk_11 ?_
  refine r_callSI (pc := 12) (As := [.int x1, .int 0, .int (v2 - 1)]) (st := []) C cs_X6_123_X6_in h (fun _ _ e => w_X6_in (Nat.le_refl 0) e) (Nat.le_trans (Nat.le_of_ble_eq_true rfl) hd) (Nat.le_of_ble_eq_true rfl) dX6_chalk_12 (fun v4 σ3 h => ?_)
  refine r_ifeq (pc := 15) (tgt := 30) C dX6_chalk_15 (by decide) h (fun h => ?_) (fun h => ?_)
  · refine r_iconst (pc := 30) (v := (-1)) C dX6_chalk_30 (by decide) ?_
    exact r_iret (pc := 31) C rfl dX6_chalk_31 h E
  · refine r_aload_n (pc := 18) (i := 0) C dX6_chalk_18 rfl rfl ?_
    refine r_getP (pc := 19) C fd_X6_7 rfl dX6_chalk_19 h (fun p5 h => ?_)
    refine r_bipush (pc := 22) (v := 110) C dX6_chalk_22 (by decide) ?_
    refine r_iload_n (pc := 24) (i := 1) C dX6_chalk_24 rfl rfl ?_
    refine r_iadd (pc := 25) C dX6_chalk_25 ?_
    refine r_iald (pc := 26) C dX6_chalk_26 h (fun v6 h => ?_)
    refine r_goto (pc := 27) (tgt := 31) C dX6_chalk_27 (by decide) ?_
    exact r_iret (pc := 31) C rfl dX6_chalk_31 h E
theorem t_X6_chalk {F : Nat} {σ : MM} {a0 : Nat} {x1 : Int32} {r : Int32 × MM} (h : g_X6_chalk F σ a0 x1 = some r) : mT σ a0 = (5, 62) := by
  unfold g_X6_chalk at h
  exact (r_ck h).1
def l_X6_hoursOf_4 (K : Int32 → MM → Option (Int32 × MM)) (F : Nat) (a0 : Nat) (x1 : Int32) : Nat → Int32 → Int32 → MM → Option (Int32 × MM)
  | 0, _, _, _ => none
  | f + 1, z2, z3, σ => (gI σ a0 5 62 50).bind fun v1 => if z3 < v1 then (bq (g_X6_has F σ x1 z3) fun v3 σ2 => jn (fun (w5 : Int32) (σ4 : MM) => l_X6_hoursOf_4 K F a0 x1 f ((z2 + w5)) ((z3 + 1)) σ4) (fun k6 => if v3 = 0 then (k6 0 σ2) else ((gP σ2 a0 5 62 48).bind fun p7 => (aI σ2 p7 20 z3).bind fun v8 => (gP σ2 a0 5 62 49).bind fun p9 => (aI σ2 p9 20 z3).bind fun v10 => bq (g_X6_wayOf F σ2 a0 v8 v10) fun v12 σ11 => k6 v12 σ11))) else (K z2 σ)
def g_X6_hoursOf (F : Nat) (σ : MM) (a0 : Nat) (x1 : Int32) : Option (Int32 × MM) := if mT σ a0 = (5, 62) then (l_X6_hoursOf_4 (fun (r2_14 : Int32) (σ13 : MM) => some (r2_14, σ13)) F a0 x1 F 0 0 σ) else none
theorem wl_X6_hoursOf_4 {B : Nat} {G : XG} {d : Nat} {rf : Int32} {σf : MM} (hd : 2 ≤ d) (C : xC B G yX6_hoursOf cX6_hoursOf 4 (some .int) d 0 0) (E : xEnd B G (some (.int rf)) σf 0 0) {K : Int32 → MM → Option (Int32 × MM)} {F : Nat} {a0 : Nat} {x1 : Int32} (hK : ∀ (q2 : Int32) (σ : MM), K q2 σ = some (rf, σf) → xV B G 0 0 σ 49 [(2, .int q2)] []) : ∀ (f : Nat) (z2 : Int32) (z3 : Int32) (σ : MM), l_X6_hoursOf_4 K F a0 x1 f z2 z3 σ = some (rf, σf) → xV B G 0 0 σ 4 [(0, rv B a0), (1, .int x1), (2, .int z2), (3, .int z3)] [] := by
  intro f
  induction f with
  | zero =>
    intro z2 z3 σ h
    have h : none = some (rf, σf) := h
    cases h
  | succ f ih =>
    intro z2 z3 σ h
    rw [l_X6_hoursOf_4.eq_2] at h
    refine r_iload_n (pc := 4) (i := 3) C dX6_hoursOf_4 rfl rfl ?_
    refine r_aload_n (pc := 5) (i := 0) C dX6_hoursOf_5 rfl rfl ?_
    refine r_getI (pc := 6) C fd_X6_400 rfl dX6_hoursOf_6 h (fun v1 h => ?_)
    refine r_icmpge (pc := 9) (tgt := 49) C dX6_hoursOf_9 (by decide) h (fun h => ?_) (fun h => ?_)
    · refine r_pick (lv' := [(2, .int z2)]) [2] rfl ?_
      exact hK _ _ h
    · refine r_iload_n (pc := 12) (i := 2) C dX6_hoursOf_12 rfl rfl ?_
      refine r_iload_n (pc := 13) (i := 1) C dX6_hoursOf_13 rfl rfl ?_
      refine r_iload_n (pc := 14) (i := 3) C dX6_hoursOf_14 rfl rfl ?_
      refine r_callSI (pc := 15) (As := [.int x1, .int z3]) (st := [.int z2]) C cs_X6_131_X6_has h (fun _ _ e => w_X6_has (Nat.le_refl 0) e) (Nat.le_trans (Nat.le_of_ble_eq_true rfl) hd) (Nat.le_of_ble_eq_true rfl) dX6_hoursOf_15 (fun v3 σ2 h => ?_)
      refine r_jn (fun k9 => ∀ (w5 : Int32) (σ4 : MM), k9 w5 σ4 = some (rf, σf) → xV B G 0 0 σ4 41 [(0, rv B a0), (1, .int x1), (3, .int z3)] [.int w5, .int z2]) h (fun w5 σ4 h => ?_) (fun k6 hk6 h => ?_)
      · refine r_iadd (pc := 41) C dX6_hoursOf_41 ?_
        refine r_istore_n (pc := 42) (i := 2) C dX6_hoursOf_42 rfl (by decide) ?_
        refine r_iinc (pc := 43) (i := 3) (v := (z3 + 1)) C dX6_hoursOf_43 rfl rfl (by decide) ?_
        refine r_goto (pc := 46) (tgt := 4) C dX6_hoursOf_46 (by decide) ?_
        refine r_pick (lv' := [(0, rv B a0), (1, .int x1), (2, .int (z2 + w5)), (3, .int (z3 + 1))]) [0, 1, 2, 3] rfl ?_
        exact ih _ _ _ h
      · refine r_ifeq (pc := 18) (tgt := 40) C dX6_hoursOf_18 (by decide) h (fun h => ?_) (fun h => ?_)
        · refine r_iconst (pc := 40) (v := 0) C dX6_hoursOf_40 (by decide) ?_
          refine r_pick (lv' := [(0, rv B a0), (1, .int x1), (3, .int z3)]) [0, 1, 3] rfl ?_
          exact hk6 _ _ h
        · refine r_aload_n (pc := 21) (i := 0) C dX6_hoursOf_21 rfl rfl ?_
          refine r_aload_n (pc := 22) (i := 0) C dX6_hoursOf_22 rfl rfl ?_
          refine r_getP (pc := 23) C fd_X6_89 rfl dX6_hoursOf_23 h (fun p7 h => ?_)
          refine r_iload_n (pc := 26) (i := 3) C dX6_hoursOf_26 rfl rfl ?_
          refine r_iald (pc := 27) C dX6_hoursOf_27 h (fun v8 h => ?_)
          refine r_aload_n (pc := 28) (i := 0) C dX6_hoursOf_28 rfl rfl ?_
          refine r_getP (pc := 29) C fd_X6_92 rfl dX6_hoursOf_29 h (fun p9 h => ?_)
          refine r_iload_n (pc := 32) (i := 3) C dX6_hoursOf_32 rfl rfl ?_
          refine r_iald (pc := 33) C dX6_hoursOf_33 h (fun v10 h => ?_)
          refine r_callVI (pc := 34) (As := [.int v8, .int v10]) (st := [.int z2]) C cs_X6_268_X6_wayOf h (fun _ _ e => w_X6_wayOf (Nat.le_refl 1) e) (fun _ _ e => t_X6_wayOf e) (Nat.le_trans (Nat.le_of_ble_eq_true rfl) hd) (Nat.le_of_ble_eq_true rfl) dX6_hoursOf_34 (fun v12 σ11 h => ?_)
          refine r_goto (pc := 37) (tgt := 41) C dX6_hoursOf_37 (by decide) ?_
          refine r_pick (lv' := [(0, rv B a0), (1, .int x1), (3, .int z3)]) [0, 1, 3] rfl ?_
          exact hk6 _ _ h
theorem w_X6_hoursOf {B F : Nat} {d : Nat} {σ : MM} {a0 : Nat} {x1 : Int32} {rf : Int32} {σf : MM} (hd : 2 ≤ d) (h : g_X6_hoursOf F σ a0 x1 = some (rf, σf)) : xMA B yX6_hoursOf cX6_hoursOf 4 (some .int) d 0 0 [rv B a0, .int x1] σ (some (.int rf)) σf := by
  refine xMA.of (by decide +kernel) (Nat.le_of_ble_eq_true rfl) (cat_rv (cat_int cat_nil)) (fun G C E => ?_)
  unfold g_X6_hoursOf at h
  obtain ⟨-, h⟩ := r_ck h
  refine r_iconst (pc := 0) (v := 0) C dX6_hoursOf_0 (by decide) ?_
  refine r_istore_n (pc := 1) (i := 2) C dX6_hoursOf_1 rfl (by decide) ?_
  refine r_iconst (pc := 2) (v := 0) C dX6_hoursOf_2 (by decide) ?_
  refine r_istore_n (pc := 3) (i := 3) C dX6_hoursOf_3 rfl (by decide) ?_
  refine r_pick (lv' := [(0, rv B a0), (1, .int x1), (2, .int 0), (3, .int 0)]) [0, 1, 2, 3] rfl ?_
  refine wl_X6_hoursOf_4 hd C E (fun r2_14 σ13 h => ?_) _ _ _ _ h
  refine r_iload_n (pc := 49) (i := 2) C dX6_hoursOf_49 rfl rfl ?_
  exact r_iret (pc := 50) C rfl dX6_hoursOf_50 h E
theorem t_X6_hoursOf {F : Nat} {σ : MM} {a0 : Nat} {x1 : Int32} {r : Int32 × MM} (h : g_X6_hoursOf F σ a0 x1 = some r) : mT σ a0 = (5, 62) := by
  unfold g_X6_hoursOf at h
  exact (r_ck h).1
def l_X6_isRowOf_2 (K : MM → Option (Int32 × MM)) (F : Nat) (a0 : Nat) (x1 : Int32) (x2 : Int32) : Nat → Int32 → MM → Option (Int32 × MM)
  | 0, _, _ => none
  | f + 1, z3, σ => if z3 < 100 then ((gP σ a0 5 62 46).bind fun p1 => (sI σ p1 z3 0).bind fun σ2 => l_X6_isRowOf_2 K F a0 x1 x2 f ((z3 + 1)) σ2) else (K σ)
def l_X6_isRowOf_23 (K : MM → Option (Int32 × MM)) (F : Nat) (a0 : Nat) (x1 : Int32) (x2 : Int32) : Nat → Int32 → MM → Option (Int32 × MM)
  | 0, _, _ => none
  | f + 1, z3, σ => (gI σ a0 5 62 50).bind fun v4 => if z3 < v4 then (bq (g_X6_has F σ x1 z3) fun v6 σ5 => if v6 = 0 then (l_X6_isRowOf_23 K F a0 x1 x2 f ((z3 + 1)) σ5) else ((gP σ5 a0 5 62 46).bind fun p7 => (gP σ5 a0 5 62 48).bind fun p8 => (aI σ5 p8 20 z3).bind fun v9 => (gP σ5 a0 5 62 49).bind fun p10 => (aI σ5 p10 20 z3).bind fun v11 => (gP σ5 a0 5 62 48).bind fun p12 => (aI σ5 p12 20 z3).bind fun v13 => (gP σ5 a0 5 62 49).bind fun p14 => (aI σ5 p14 20 z3).bind fun v15 => bq (g_X6_leftOf F σ5 a0 v13 v15) fun v17 σ16 => (sI σ16 p7 (((10 * v9) + v11)) ((v17 + 1))).bind fun σ18 => l_X6_isRowOf_23 K F a0 x1 x2 f ((z3 + 1)) σ18)) else (K σ)
def g_X6_isRowOf (F : Nat) (σ : MM) (a0 : Nat) (x1 : Int32) (x2 : Int32) : Option (Int32 × MM) := if mT σ a0 = (5, 62) then (l_X6_isRowOf_2 (fun (σ3 : MM) => l_X6_isRowOf_23 (fun (σ19 : MM) => bq (g_X6_isRow F σ19 a0 x2) fun v21 σ20 => (rz v21).bind fun u => some (u, σ20)) F a0 x1 x2 F 0 σ3) F a0 x1 x2 F 0 σ) else none
theorem wl_X6_isRowOf_2 {B : Nat} {G : XG} {d : Nat} {rf : Int32} {σf : MM} (hd : 3 ≤ d) (C : xC B G yX6_isRowOf cX6_isRowOf 4 (some .boolean) d 0 0) (E : xEnd B G (some (.int rf)) σf 0 0) {K : MM → Option (Int32 × MM)} {F : Nat} {a0 : Nat} {x1 : Int32} {x2 : Int32} (hK : ∀ (σ : MM), K σ = some (rf, σf) → xV B G 0 0 σ 21 [(0, rv B a0), (1, .int x1), (2, .int x2)] []) : ∀ (f : Nat) (z3 : Int32) (σ : MM), l_X6_isRowOf_2 K F a0 x1 x2 f z3 σ = some (rf, σf) → xV B G 0 0 σ 2 [(0, rv B a0), (1, .int x1), (2, .int x2), (3, .int z3)] [] := by
  intro f
  induction f with
  | zero =>
    intro z3 σ h
    have h : none = some (rf, σf) := h
    cases h
  | succ f ih =>
    intro z3 σ h
    rw [l_X6_isRowOf_2.eq_2] at h
    refine r_iload_n (pc := 2) (i := 3) C dX6_isRowOf_2 rfl rfl ?_
    refine r_bipush (pc := 3) (v := 100) C dX6_isRowOf_3 (by decide) ?_
    refine r_icmpge (pc := 5) (tgt := 21) C dX6_isRowOf_5 (by decide) h (fun h => ?_) (fun h => ?_)
    · refine r_pick (lv' := [(0, rv B a0), (1, .int x1), (2, .int x2)]) [0, 1, 2] rfl ?_
      exact hK _ h
    · refine r_aload_n (pc := 8) (i := 0) C dX6_isRowOf_8 rfl rfl ?_
      refine r_getP (pc := 9) C fd_X6_83 rfl dX6_isRowOf_9 h (fun p1 h => ?_)
      refine r_iload_n (pc := 12) (i := 3) C dX6_isRowOf_12 rfl rfl ?_
      refine r_iconst (pc := 13) (v := 0) C dX6_isRowOf_13 (by decide) ?_
      refine r_iast (pc := 14) C dX6_isRowOf_14 h (fun σ2 h => ?_)
      refine r_iinc (pc := 15) (i := 3) (v := (z3 + 1)) C dX6_isRowOf_15 rfl rfl (by decide) ?_
      refine r_goto (pc := 18) (tgt := 2) C dX6_isRowOf_18 (by decide) ?_
      refine r_pick (lv' := [(0, rv B a0), (1, .int x1), (2, .int x2), (3, .int (z3 + 1))]) [0, 1, 2, 3] rfl ?_
      exact ih _ _ h
theorem wl_X6_isRowOf_23 {B : Nat} {G : XG} {d : Nat} {rf : Int32} {σf : MM} (hd : 3 ≤ d) (C : xC B G yX6_isRowOf cX6_isRowOf 4 (some .boolean) d 0 0) (E : xEnd B G (some (.int rf)) σf 0 0) {K : MM → Option (Int32 × MM)} {F : Nat} {a0 : Nat} {x1 : Int32} {x2 : Int32} (hK : ∀ (σ : MM), K σ = some (rf, σf) → xV B G 0 0 σ 84 [(0, rv B a0), (2, .int x2)] []) : ∀ (f : Nat) (z3 : Int32) (σ : MM), l_X6_isRowOf_23 K F a0 x1 x2 f z3 σ = some (rf, σf) → xV B G 0 0 σ 23 [(0, rv B a0), (1, .int x1), (2, .int x2), (3, .int z3)] [] := by
  intro f
  induction f with
  | zero =>
    intro z3 σ h
    have h : none = some (rf, σf) := h
    cases h
  | succ f ih =>
    intro z3 σ h
    rw [l_X6_isRowOf_23.eq_2] at h
    refine r_iload_n (pc := 23) (i := 3) C dX6_isRowOf_23 rfl rfl ?_
    refine r_aload_n (pc := 24) (i := 0) C dX6_isRowOf_24 rfl rfl ?_
    refine r_getI (pc := 25) C fd_X6_400 rfl dX6_isRowOf_25 h (fun v4 h => ?_)
    refine r_icmpge (pc := 28) (tgt := 84) C dX6_isRowOf_28 (by decide) h (fun h => ?_) (fun h => ?_)
    · refine r_pick (lv' := [(0, rv B a0), (2, .int x2)]) [0, 2] rfl ?_
      exact hK _ h
    · refine r_iload_n (pc := 31) (i := 1) C dX6_isRowOf_31 rfl rfl ?_
      refine r_iload_n (pc := 32) (i := 3) C dX6_isRowOf_32 rfl rfl ?_
      refine r_callSI (pc := 33) (As := [.int x1, .int z3]) (st := []) C cs_X6_131_X6_has h (fun _ _ e => w_X6_has (Nat.le_refl 0) e) (Nat.le_trans (Nat.le_of_ble_eq_true rfl) hd) (Nat.le_of_ble_eq_true rfl) dX6_isRowOf_33 (fun v6 σ5 h => ?_)
      refine r_ifeq (pc := 36) (tgt := 78) C dX6_isRowOf_36 (by decide) h (fun h => ?_) (fun h => ?_)
      · refine r_iinc (pc := 78) (i := 3) (v := (z3 + 1)) C dX6_isRowOf_78 rfl rfl (by decide) ?_
        refine r_goto (pc := 81) (tgt := 23) C dX6_isRowOf_81 (by decide) ?_
        refine r_pick (lv' := [(0, rv B a0), (1, .int x1), (2, .int x2), (3, .int (z3 + 1))]) [0, 1, 2, 3] rfl ?_
        exact ih _ _ h
      · refine r_aload_n (pc := 39) (i := 0) C dX6_isRowOf_39 rfl rfl ?_
        refine r_getP (pc := 40) C fd_X6_83 rfl dX6_isRowOf_40 h (fun p7 h => ?_)
        refine r_bipush (pc := 43) (v := 10) C dX6_isRowOf_43 (by decide) ?_
        refine r_aload_n (pc := 45) (i := 0) C dX6_isRowOf_45 rfl rfl ?_
        refine r_getP (pc := 46) C fd_X6_89 rfl dX6_isRowOf_46 h (fun p8 h => ?_)
        refine r_iload_n (pc := 49) (i := 3) C dX6_isRowOf_49 rfl rfl ?_
        refine r_iald (pc := 50) C dX6_isRowOf_50 h (fun v9 h => ?_)
        refine r_imul (pc := 51) C dX6_isRowOf_51 ?_
        refine r_aload_n (pc := 52) (i := 0) C dX6_isRowOf_52 rfl rfl ?_
        refine r_getP (pc := 53) C fd_X6_92 rfl dX6_isRowOf_53 h (fun p10 h => ?_)
        refine r_iload_n (pc := 56) (i := 3) C dX6_isRowOf_56 rfl rfl ?_
        refine r_iald (pc := 57) C dX6_isRowOf_57 h (fun v11 h => ?_)
        refine r_iadd (pc := 58) C dX6_isRowOf_58 ?_
        refine r_aload_n (pc := 59) (i := 0) C dX6_isRowOf_59 rfl rfl ?_
        refine r_aload_n (pc := 60) (i := 0) C dX6_isRowOf_60 rfl rfl ?_
        refine r_getP (pc := 61) C fd_X6_89 rfl dX6_isRowOf_61 h (fun p12 h => ?_)
        refine r_iload_n (pc := 64) (i := 3) C dX6_isRowOf_64 rfl rfl ?_
        refine r_iald (pc := 65) C dX6_isRowOf_65 h (fun v13 h => ?_)
        refine r_aload_n (pc := 66) (i := 0) C dX6_isRowOf_66 rfl rfl ?_
        refine r_getP (pc := 67) C fd_X6_92 rfl dX6_isRowOf_67 h (fun p14 h => ?_)
        refine r_iload_n (pc := 70) (i := 3) C dX6_isRowOf_70 rfl rfl ?_
        refine r_iald (pc := 71) C dX6_isRowOf_71 h (fun v15 h => ?_)
        refine r_callVI (pc := 72) (As := [.int v13, .int v15]) (st := [.int ((10 * v9) + v11), rv B p7]) C cs_X6_385_X6_leftOf h (fun _ _ e => w_X6_leftOf (Nat.le_refl 0) e) (fun _ _ e => t_X6_leftOf e) (Nat.le_trans (Nat.le_of_ble_eq_true rfl) hd) (Nat.le_of_ble_eq_true rfl) dX6_isRowOf_72 (fun v17 σ16 h => ?_)
        refine r_iconst (pc := 75) (v := 1) C dX6_isRowOf_75 (by decide) ?_
        refine r_iadd (pc := 76) C dX6_isRowOf_76 ?_
        refine r_iast (pc := 77) C dX6_isRowOf_77 h (fun σ18 h => ?_)
        refine r_iinc (pc := 78) (i := 3) (v := (z3 + 1)) C dX6_isRowOf_78 rfl rfl (by decide) ?_
        refine r_goto (pc := 81) (tgt := 23) C dX6_isRowOf_81 (by decide) ?_
        refine r_pick (lv' := [(0, rv B a0), (1, .int x1), (2, .int x2), (3, .int (z3 + 1))]) [0, 1, 2, 3] rfl ?_
        exact ih _ _ h
theorem w_X6_isRowOf {B F : Nat} {d : Nat} {σ : MM} {a0 : Nat} {x1 : Int32} {x2 : Int32} {rf : Int32} {σf : MM} (hd : 3 ≤ d) (h : g_X6_isRowOf F σ a0 x1 x2 = some (rf, σf)) : xMA B yX6_isRowOf cX6_isRowOf 4 (some .boolean) d 0 0 [rv B a0, .int x1, .int x2] σ (some (.int rf)) σf := by
  refine xMA.of (by decide +kernel) (Nat.le_of_ble_eq_true rfl) (cat_rv (cat_int (cat_int cat_nil))) (fun G C E => ?_)
  unfold g_X6_isRowOf at h
  obtain ⟨-, h⟩ := r_ck h
  refine r_iconst (pc := 0) (v := 0) C dX6_isRowOf_0 (by decide) ?_
  refine r_istore_n (pc := 1) (i := 3) C dX6_isRowOf_1 rfl (by decide) ?_
  refine r_pick (lv' := [(0, rv B a0), (1, .int x1), (2, .int x2), (3, .int 0)]) [0, 1, 2, 3] rfl ?_
  refine wl_X6_isRowOf_2 hd C E (fun  σ3 h => ?_) _ _ _ h
  refine r_iconst (pc := 21) (v := 0) C dX6_isRowOf_21 (by decide) ?_
  refine r_istore_n (pc := 22) (i := 3) C dX6_isRowOf_22 rfl (by decide) ?_
  refine r_pick (lv' := [(0, rv B a0), (1, .int x1), (2, .int x2), (3, .int 0)]) [0, 1, 2, 3] rfl ?_
  refine wl_X6_isRowOf_23 hd C E (fun  σ19 h => ?_) _ _ _ h
  refine r_aload_n (pc := 84) (i := 0) C dX6_isRowOf_84 rfl rfl ?_
  refine r_iload_n (pc := 85) (i := 2) C dX6_isRowOf_85 rfl rfl ?_
  refine r_callVI (pc := 86) (As := [.int x2]) (st := []) C cs_X6_391_X6_isRow h (fun _ _ e => w_X6_isRow (Nat.le_refl 2) e) (fun _ _ e => t_X6_isRow e) (Nat.le_trans (Nat.le_of_ble_eq_true rfl) hd) (Nat.le_of_ble_eq_true rfl) dX6_isRowOf_86 (fun v21 σ20 h => ?_)
  exact r_zret (pc := 89) C rfl dX6_isRowOf_89 h E
theorem t_X6_isRowOf {F : Nat} {σ : MM} {a0 : Nat} {x1 : Int32} {x2 : Int32} {r : Int32 × MM} (h : g_X6_isRowOf F σ a0 x1 x2 = some r) : mT σ a0 = (5, 62) := by
  unfold g_X6_isRowOf at h
  exact (r_ck h).1
theorem yd_X6_hoursOf : xYd yX6_hoursOf 1 := ⟨by decide +kernel, by decide +kernel, by decide +kernel⟩
theorem cs_X6_447_X6_hoursOf : xCV RX6 447 yX6_hoursOf cX6_hoursOf 4 (some .int) 5 62 1 := ⟨by decide, by decide, _, rfl, yd_X6_hoursOf, Or.inl ⟨rfl, lw_V q1866 q1868 qs113 q122 q1869⟩⟩
theorem yd_X6_isRowOf : xYd yX6_isRowOf 2 := ⟨by decide +kernel, by decide +kernel, by decide +kernel⟩
theorem cs_X6_450_X6_isRowOf : xCV RX6 450 yX6_isRowOf cX6_isRowOf 4 (some .boolean) 5 62 2 := ⟨by decide, by decide, _, rfl, yd_X6_isRowOf, Or.inl ⟨rfl, lw_V q1870 q1872 qs114 q122 q1873⟩⟩
def l_X6_two_52 (K : Int32 → MM → Option (Int32 × MM)) (F : Nat) (a0 : Nat) (x1 : Int32) (x2 : Int32) : Nat → Int32 → Int32 → MM → Option (Int32 × MM)
  | 0, _, _, _ => none
  | f + 1, z3, z4, σ => if x2 < z4 then (K z3 σ) else (bq (g_X6_hoursOf F σ a0 z4) fun v9 σ8 => bq (g_X6_hoursOf F σ8 a0 ((x2 &&& (z4 ^^^ (-1))))) fun v11 σ10 => bq (g_X6_max F σ10 v9 v11) fun v13 σ12 => if v13 < z3 then ((gP σ12 a0 5 62 0).bind fun p14 => (aI σ12 p14 20 151).bind fun v15 => bq (g_X6_isRowOf F σ12 a0 z4 v15) fun v17 σ16 => if v17 = 0 then (l_X6_two_52 K F a0 x1 x2 f z3 ((z4 + 1)) σ16) else (bq (g_X6_isRowOf F σ16 a0 ((x2 &&& (z4 ^^^ (-1)))) x1) fun v19 σ18 => if v19 = 0 then (l_X6_two_52 K F a0 x1 x2 f z3 ((z4 + 1)) σ18) else (l_X6_two_52 K F a0 x1 x2 f v13 ((z4 + 1)) σ18))) else (l_X6_two_52 K F a0 x1 x2 f z3 ((z4 + 1)) σ12))
def g_X6_two (F : Nat) (σ : MM) (a0 : Nat) (x1 : Int32) : Option (Int32 × MM) := if mT σ a0 = (5, 62) then (bq (g_X6_isPerson F σ a0 x1) fun v2 σ1 => if v2 = 0 then (some ((-1), σ1)) else ((gP σ1 a0 5 62 0).bind fun p3 => (aI σ1 p3 20 151).bind fun v4 => if v4 < 0 then (some ((-2), σ1)) else (bq (g_X6_laysCoins F σ1 a0 8) fun v6 σ5 => if v6 = 0 then (some ((-3), σ5)) else ((gI σ5 a0 5 62 50).bind fun v7 => l_X6_two_52 (fun (r3_21 : Int32) (σ20 : MM) => if r3_21 = 1000000 then (some ((-4), σ20)) else (some (r3_21, σ20))) F a0 x1 ((((1 : Int32) <<< (v7 &&& 31)) - 1)) F 1000000 0 σ5)))) else none
theorem wl_X6_two_52 {B : Nat} {G : XG} {d : Nat} {rf : Int32} {σf : MM} (hd : 4 ≤ d) (C : xC B G yX6_two cX6_two 6 (some .int) d 0 0) (E : xEnd B G (some (.int rf)) σf 0 0) {K : Int32 → MM → Option (Int32 × MM)} {F : Nat} {a0 : Nat} {x1 : Int32} {x2 : Int32} (hK : ∀ (q3 : Int32) (σ : MM), K q3 σ = some (rf, σf) → xV B G 0 0 σ 125 [(3, .int q3)] []) : ∀ (f : Nat) (z3 : Int32) (z4 : Int32) (σ : MM), l_X6_two_52 K F a0 x1 x2 f z3 z4 σ = some (rf, σf) → xV B G 0 0 σ 52 [(0, rv B a0), (1, .int x1), (2, .int x2), (3, .int z3), (4, .int z4)] [] := by
  intro f
  induction f with
  | zero =>
    intro z3 z4 σ h
    have h : none = some (rf, σf) := h
    cases h
  | succ f ih =>
    intro z3 z4 σ h
    rw [l_X6_two_52.eq_2] at h
    refine r_iload (pc := 52) (i := 4) C dX6_two_52 rfl ?_
    refine r_iload_n (pc := 54) (i := 2) C dX6_two_54 rfl rfl ?_
    refine r_icmpgt (pc := 55) (tgt := 125) C dX6_two_55 (by decide) h (fun h => ?_) (fun h => ?_)
    · refine r_pick (lv' := [(3, .int z3)]) [3] rfl ?_
      exact hK _ _ h
    · refine r_aload_n (pc := 58) (i := 0) C dX6_two_58 rfl rfl ?_
      refine r_iload (pc := 59) (i := 4) C dX6_two_59 rfl ?_
      refine r_callVI (pc := 61) (As := [.int z4]) (st := []) C cs_X6_447_X6_hoursOf h (fun _ _ e => w_X6_hoursOf (Nat.le_refl 2) e) (fun _ _ e => t_X6_hoursOf e) (Nat.le_trans (Nat.le_of_ble_eq_true rfl) hd) (Nat.le_of_ble_eq_true rfl) dX6_two_61 (fun v9 σ8 h => ?_)
      refine r_aload_n (pc := 64) (i := 0) C dX6_two_64 rfl rfl ?_
      refine r_iload_n (pc := 65) (i := 2) C dX6_two_65 rfl rfl ?_
      refine r_iload (pc := 66) (i := 4) C dX6_two_66 rfl ?_
      refine r_iconst (pc := 68) (v := (-1)) C dX6_two_68 (by decide) ?_
      refine r_ixor (pc := 69) C dX6_two_69 ?_
      refine r_iand (pc := 70) C dX6_two_70 ?_
      refine r_callVI (pc := 71) (As := [.int (x2 &&& (z4 ^^^ (-1)))]) (st := [.int v9]) C cs_X6_447_X6_hoursOf h (fun _ _ e => w_X6_hoursOf (Nat.le_refl 2) e) (fun _ _ e => t_X6_hoursOf e) (Nat.le_trans (Nat.le_of_ble_eq_true rfl) hd) (Nat.le_of_ble_eq_true rfl) dX6_two_71 (fun v11 σ10 h => ?_)
      refine r_callSI (pc := 74) (As := [.int v9, .int v11]) (st := []) C cs_X6_143_X6_max h (fun _ _ e => w_X6_max (Nat.le_refl 0) e) (Nat.le_trans (Nat.le_of_ble_eq_true rfl) hd) (Nat.le_of_ble_eq_true rfl) dX6_two_74 (fun v13 σ12 h => ?_)
      refine r_istore (pc := 77) (i := 5) C dX6_two_77 (by decide) ?_
      refine r_iload (pc := 79) (i := 5) C dX6_two_79 rfl ?_
      refine r_iload_n (pc := 81) (i := 3) C dX6_two_81 rfl rfl ?_
      refine r_icmpge (pc := 82) (tgt := 119) C dX6_two_82 (by decide) h (fun h => ?_) (fun h => ?_)
      · refine r_iinc (pc := 119) (i := 4) (v := (z4 + 1)) C dX6_two_119 rfl rfl (by decide) ?_
        refine r_goto (pc := 122) (tgt := 52) C dX6_two_122 (by decide) ?_
        refine r_pick (lv' := [(0, rv B a0), (1, .int x1), (2, .int x2), (3, .int z3), (4, .int (z4 + 1))]) [0, 1, 2, 3, 4] rfl ?_
        exact ih _ _ _ h
      · refine r_aload_n (pc := 85) (i := 0) C dX6_two_85 rfl rfl ?_
        refine r_iload (pc := 86) (i := 4) C dX6_two_86 rfl ?_
        refine r_aload_n (pc := 88) (i := 0) C dX6_two_88 rfl rfl ?_
        refine r_getP (pc := 89) C fd_X6_7 rfl dX6_two_89 h (fun p14 h => ?_)
        refine r_sipush (pc := 92) (v := 151) C dX6_two_92 (by decide) ?_
        refine r_iald (pc := 95) C dX6_two_95 h (fun v15 h => ?_)
        refine r_callVI (pc := 96) (As := [.int z4, .int v15]) (st := []) C cs_X6_450_X6_isRowOf h (fun _ _ e => w_X6_isRowOf (Nat.le_refl 3) e) (fun _ _ e => t_X6_isRowOf e) (Nat.le_trans (Nat.le_of_ble_eq_true rfl) hd) (Nat.le_of_ble_eq_true rfl) dX6_two_96 (fun v17 σ16 h => ?_)
        refine r_ifeq (pc := 99) (tgt := 119) C dX6_two_99 (by decide) h (fun h => ?_) (fun h => ?_)
        · refine r_iinc (pc := 119) (i := 4) (v := (z4 + 1)) C dX6_two_119 rfl rfl (by decide) ?_
          refine r_goto (pc := 122) (tgt := 52) C dX6_two_122 (by decide) ?_
          refine r_pick (lv' := [(0, rv B a0), (1, .int x1), (2, .int x2), (3, .int z3), (4, .int (z4 + 1))]) [0, 1, 2, 3, 4] rfl ?_
          exact ih _ _ _ h
        · refine r_aload_n (pc := 102) (i := 0) C dX6_two_102 rfl rfl ?_
          refine r_iload_n (pc := 103) (i := 2) C dX6_two_103 rfl rfl ?_
          refine r_iload (pc := 104) (i := 4) C dX6_two_104 rfl ?_
          refine r_iconst (pc := 106) (v := (-1)) C dX6_two_106 (by decide) ?_
          refine r_ixor (pc := 107) C dX6_two_107 ?_
          refine r_iand (pc := 108) C dX6_two_108 ?_
          refine r_iload_n (pc := 109) (i := 1) C dX6_two_109 rfl rfl ?_
          refine r_callVI (pc := 110) (As := [.int (x2 &&& (z4 ^^^ (-1))), .int x1]) (st := []) C cs_X6_450_X6_isRowOf h (fun _ _ e => w_X6_isRowOf (Nat.le_refl 3) e) (fun _ _ e => t_X6_isRowOf e) (Nat.le_trans (Nat.le_of_ble_eq_true rfl) hd) (Nat.le_of_ble_eq_true rfl) dX6_two_110 (fun v19 σ18 h => ?_)
          refine r_ifeq (pc := 113) (tgt := 119) C dX6_two_113 (by decide) h (fun h => ?_) (fun h => ?_)
          · refine r_iinc (pc := 119) (i := 4) (v := (z4 + 1)) C dX6_two_119 rfl rfl (by decide) ?_
            refine r_goto (pc := 122) (tgt := 52) C dX6_two_122 (by decide) ?_
            refine r_pick (lv' := [(0, rv B a0), (1, .int x1), (2, .int x2), (3, .int z3), (4, .int (z4 + 1))]) [0, 1, 2, 3, 4] rfl ?_
            exact ih _ _ _ h
          · refine r_iload (pc := 116) (i := 5) C dX6_two_116 rfl ?_
            refine r_istore_n (pc := 118) (i := 3) C dX6_two_118 rfl (by decide) ?_
            refine r_iinc (pc := 119) (i := 4) (v := (z4 + 1)) C dX6_two_119 rfl rfl (by decide) ?_
            refine r_goto (pc := 122) (tgt := 52) C dX6_two_122 (by decide) ?_
            refine r_pick (lv' := [(0, rv B a0), (1, .int x1), (2, .int x2), (3, .int v13), (4, .int (z4 + 1))]) [0, 1, 2, 3, 4] rfl ?_
            exact ih _ _ _ h
theorem w_X6_two {B F : Nat} {d : Nat} {σ : MM} {a0 : Nat} {x1 : Int32} {rf : Int32} {σf : MM} (hd : 4 ≤ d) (h : g_X6_two F σ a0 x1 = some (rf, σf)) : xMA B yX6_two cX6_two 6 (some .int) d 0 0 [rv B a0, .int x1] σ (some (.int rf)) σf := by
  refine xMA.of (by decide +kernel) (Nat.le_of_ble_eq_true rfl) (cat_rv (cat_int cat_nil)) (fun G C E => ?_)
  unfold g_X6_two at h
  obtain ⟨-, h⟩ := r_ck h
  refine r_aload_n (pc := 0) (i := 0) C dX6_two_0 rfl rfl ?_
  refine r_iload_n (pc := 1) (i := 1) C dX6_two_1 rfl rfl ?_
  refine r_callVI (pc := 2) (As := [.int x1]) (st := []) C cs_X6_135_X6_isPerson h (fun _ _ e => w_X6_isPerson (Nat.le_refl 1) e) (fun _ _ e => t_X6_isPerson e) (Nat.le_trans (Nat.le_of_ble_eq_true rfl) hd) (Nat.le_of_ble_eq_true rfl) dX6_two_2 (fun v2 σ1 h => ?_)
  refine r_ifne (pc := 5) (tgt := 10) C dX6_two_5 (by decide) h (fun h => ?_) (fun h => ?_)
  · refine r_aload_n (pc := 10) (i := 0) C dX6_two_10 rfl rfl ?_
    refine r_getP (pc := 11) C fd_X6_7 rfl dX6_two_11 h (fun p3 h => ?_)
    refine r_sipush (pc := 14) (v := 151) C dX6_two_14 (by decide) ?_
    refine r_iald (pc := 17) C dX6_two_17 h (fun v4 h => ?_)
    refine r_ifge (pc := 18) (tgt := 24) C dX6_two_18 (by decide) h (fun h => ?_) (fun h => ?_)
    · refine r_aload_n (pc := 24) (i := 0) C dX6_two_24 rfl rfl ?_
      refine r_bipush (pc := 25) (v := 8) C dX6_two_25 (by decide) ?_
      refine r_callVI (pc := 27) (As := [.int 8]) (st := []) C cs_X6_403_X6_laysCoins h (fun _ _ e => w_X6_laysCoins (Nat.le_refl 3) e) (fun _ _ e => t_X6_laysCoins e) (Nat.le_trans (Nat.le_of_ble_eq_true rfl) hd) (Nat.le_of_ble_eq_true rfl) dX6_two_27 (fun v6 σ5 h => ?_)
      refine r_ifne (pc := 30) (tgt := 36) C dX6_two_30 (by decide) h (fun h => ?_) (fun h => ?_)
      · refine r_iconst (pc := 36) (v := 1) C dX6_two_36 (by decide) ?_
        refine r_aload_n (pc := 37) (i := 0) C dX6_two_37 rfl rfl ?_
        refine r_getI (pc := 38) C fd_X6_400 rfl dX6_two_38 h (fun v7 h => ?_)
        refine r_ishl (pc := 41) C dX6_two_41 ?_
        refine r_iconst (pc := 42) (v := 1) C dX6_two_42 (by decide) ?_
        refine r_isub (pc := 43) C dX6_two_43 ?_
        refine r_istore_n (pc := 44) (i := 2) C dX6_two_44 rfl (by decide) ?_
        refine r_ldc_w (pc := 45) C q1785 dX6_two_45 ?_
        refine r_istore_n (pc := 48) (i := 3) C dX6_two_48 rfl (by decide) ?_
        refine r_iconst (pc := 49) (v := 0) C dX6_two_49 (by decide) ?_
        refine r_istore (pc := 50) (i := 4) C dX6_two_50 (by decide) ?_
        refine r_pick (lv' := [(0, rv B a0), (1, .int x1), (2, .int (((1 : Int32) <<< (v7 &&& 31)) - 1)), (3, .int 1000000), (4, .int 0)]) [0, 1, 2, 3, 4] rfl ?_
        refine wl_X6_two_52 hd C E (fun r3_21 σ20 h => ?_) _ _ _ _ h
        refine r_iload_n (pc := 125) (i := 3) C dX6_two_125 rfl rfl ?_
        refine r_ldc_w (pc := 126) C q1785 dX6_two_126 ?_
        refine r_icmpne (pc := 129) (tgt := 137) C dX6_two_129 (by decide) h (fun h => ?_) (fun h => ?_)
        · refine r_iload_n (pc := 137) (i := 3) C dX6_two_137 rfl rfl ?_
          exact r_iret (pc := 138) C rfl dX6_two_138 h E
        · refine r_bipush (pc := 132) (v := (-4)) C dX6_two_132 (by decide) ?_
          refine r_goto (pc := 134) (tgt := 138) C dX6_two_134 (by decide) ?_
          exact r_iret (pc := 138) C rfl dX6_two_138 h E
      · refine r_bipush (pc := 33) (v := (-3)) C dX6_two_33 (by decide) ?_
        exact r_iret (pc := 35) C rfl dX6_two_35 h E
    · refine r_bipush (pc := 21) (v := (-2)) C dX6_two_21 (by decide) ?_
      exact r_iret (pc := 23) C rfl dX6_two_23 h E
  · refine r_iconst (pc := 8) (v := (-1)) C dX6_two_8 (by decide) ?_
    exact r_iret (pc := 9) C rfl dX6_two_9 h E
theorem t_X6_two {F : Nat} {σ : MM} {a0 : Nat} {x1 : Int32} {r : Int32 × MM} (h : g_X6_two F σ a0 x1 = some r) : mT σ a0 = (5, 62) := by
  unfold g_X6_two at h
  exact (r_ck h).1
def l_X6_gcd_4 (K : Int32 → MM → Option (Int32 × MM)) (F : Nat)  : Nat → Int32 → Int32 → MM → Option (Int32 × MM)
  | 0, _, _, _ => none
  | f + 1, z2, z3, σ => if z3 = 0 then (K z2 σ) else ((rm_ z2 z3).bind fun v1 => l_X6_gcd_4 K F f z3 v1 σ)
def g_X6_gcd (F : Nat) (σ : MM) (x0 : Int32) (x1 : Int32) : Option (Int32 × MM) := l_X6_gcd_4 (fun (r2_3 : Int32) (σ2 : MM) => some (r2_3, σ2)) F F x0 x1 σ
theorem wl_X6_gcd_4 {B : Nat} {G : XG} {d : Nat} {rf : Int32} {σf : MM} (hd : 0 ≤ d) (C : xC B G yX6_gcd cX6_gcd 5 (some .int) d 0 0) (E : xEnd B G (some (.int rf)) σf 0 0) {K : Int32 → MM → Option (Int32 × MM)} {F : Nat} (hK : ∀ (q2 : Int32) (σ : MM), K q2 σ = some (rf, σf) → xV B G 0 0 σ 21 [(2, .int q2)] []) : ∀ (f : Nat) (z2 : Int32) (z3 : Int32) (σ : MM), l_X6_gcd_4 K F f z2 z3 σ = some (rf, σf) → xV B G 0 0 σ 4 [(2, .int z2), (3, .int z3)] [] := by
  intro f
  induction f with
  | zero =>
    intro z2 z3 σ h
    have h : none = some (rf, σf) := h
    cases h
  | succ f ih =>
    intro z2 z3 σ h
    rw [l_X6_gcd_4.eq_2] at h
    refine r_iload_n (pc := 4) (i := 3) C dX6_gcd_4 rfl rfl ?_
    refine r_ifeq (pc := 5) (tgt := 21) C dX6_gcd_5 (by decide) h (fun h => ?_) (fun h => ?_)
    · refine r_pick (lv' := [(2, .int z2)]) [2] rfl ?_
      exact hK _ _ h
    · refine r_iload_n (pc := 8) (i := 2) C dX6_gcd_8 rfl rfl ?_
      refine r_iload_n (pc := 9) (i := 3) C dX6_gcd_9 rfl rfl ?_
      refine r_irem (pc := 10) C dX6_gcd_10 h (fun v1 h => ?_)
      refine r_istore (pc := 11) (i := 4) C dX6_gcd_11 (by decide) ?_
      refine r_iload_n (pc := 13) (i := 3) C dX6_gcd_13 rfl rfl ?_
      refine r_istore_n (pc := 14) (i := 2) C dX6_gcd_14 rfl (by decide) ?_
      refine r_iload (pc := 15) (i := 4) C dX6_gcd_15 rfl ?_
      refine r_istore_n (pc := 17) (i := 3) C dX6_gcd_17 rfl (by decide) ?_
      refine r_goto (pc := 18) (tgt := 4) C dX6_gcd_18 (by decide) ?_
      refine r_pick (lv' := [(2, .int z3), (3, .int v1)]) [2, 3] rfl ?_
      exact ih _ _ _ h
theorem w_X6_gcd {B F : Nat} {d : Nat} {σ : MM} {x0 : Int32} {x1 : Int32} {rf : Int32} {σf : MM} (hd : 0 ≤ d) (h : g_X6_gcd F σ x0 x1 = some (rf, σf)) : xMA B yX6_gcd cX6_gcd 5 (some .int) d 0 0 [.int x0, .int x1] σ (some (.int rf)) σf := by
  refine xMA.of (by decide +kernel) (Nat.le_of_ble_eq_true rfl) (cat_int (cat_int cat_nil)) (fun G C E => ?_)
  unfold g_X6_gcd at h
  refine r_iload_n (pc := 0) (i := 0) C dX6_gcd_0 rfl rfl ?_
  refine r_istore_n (pc := 1) (i := 2) C dX6_gcd_1 rfl (by decide) ?_
  refine r_iload_n (pc := 2) (i := 1) C dX6_gcd_2 rfl rfl ?_
  refine r_istore_n (pc := 3) (i := 3) C dX6_gcd_3 rfl (by decide) ?_
  refine r_pick (lv' := [(2, .int x0), (3, .int x1)]) [2, 3] rfl ?_
  refine wl_X6_gcd_4 hd C E (fun r2_3 σ2 h => ?_) _ _ _ _ h
  refine r_iload_n (pc := 21) (i := 2) C dX6_gcd_21 rfl rfl ?_
  exact r_iret (pc := 22) C rfl dX6_gcd_22 h E
theorem yd_X6_gcd : xYd yX6_gcd 2 := ⟨by decide +kernel, by decide +kernel, by decide +kernel⟩
theorem cs_X6_453_X6_gcd : xCS RX6 453 yX6_gcd cX6_gcd 5 (some .int) 2 := ⟨by decide, yd_X6_gcd, Or.inl (lw_S q1878 q1879 q122 q1880)⟩
def l_X6_dry_38 (K : Int32 → Int32 → MM → Option (Int32 × MM)) (F : Nat) (x1 : Int32) (x2 : Int32) (x3 : Int32) : Nat → Int32 → Int32 → Int32 → MM → Option (Int32 × MM)
  | 0, _, _, _, _ => none
  | f + 1, z4, z5, z6, σ => if z6 < x1 then (l_X6_dry_38 K F x1 x2 x3 f ((z4 * x3)) ((z5 * 10)) ((z6 + 1)) σ) else (K z4 z5 σ)
def g_X6_dry (F : Nat) (σ : MM) (a0 : Nat) (x1 : Int32) (x2 : Int32) : Option (Int32 × MM) := if mT σ a0 = (5, 62) then (bq (g_X6_in F σ x1 1 9) fun v2 σ1 => if v2 = 0 then (some ((-1), σ1)) else (bq (g_X6_in F σ1 x2 0 1) fun v4 σ3 => if v4 = 0 then (some ((-1), σ3)) else (bq (g_X6_rainBy F σ3 a0) fun v6 σ5 => l_X6_dry_38 (fun (r4_8 : Int32) (r5_9 : Int32) (σ7 : MM) => bq (g_X6_gcd F σ7 r4_8 r5_9) fun v11 σ10 => if x2 = 0 then ((dv r4_8 v11).bind fun v13 => some (v13, σ10)) else ((dv r5_9 v11).bind fun v12 => some (v12, σ10))) F x1 x2 ((10 - v6)) F 1 1 0 σ5))) else none
theorem wl_X6_dry_38 {B : Nat} {G : XG} {d : Nat} {rf : Int32} {σf : MM} (hd : 4 ≤ d) (C : xC B G yX6_dry cX6_dry 7 (some .int) d 0 0) (E : xEnd B G (some (.int rf)) σf 0 0) {K : Int32 → Int32 → MM → Option (Int32 × MM)} {F : Nat} {x1 : Int32} {x2 : Int32} {x3 : Int32} (hK : ∀ (q4 : Int32) (q5 : Int32) (σ : MM), K q4 q5 σ = some (rf, σf) → xV B G 0 0 σ 63 [(2, .int x2), (4, .int q4), (5, .int q5)] []) : ∀ (f : Nat) (z4 : Int32) (z5 : Int32) (z6 : Int32) (σ : MM), l_X6_dry_38 K F x1 x2 x3 f z4 z5 z6 σ = some (rf, σf) → xV B G 0 0 σ 38 [(1, .int x1), (2, .int x2), (3, .int x3), (4, .int z4), (5, .int z5), (6, .int z6)] [] := by
  intro f
  induction f with
  | zero =>
    intro z4 z5 z6 σ h
    have h : none = some (rf, σf) := h
    cases h
  | succ f ih =>
    intro z4 z5 z6 σ h
    rw [l_X6_dry_38.eq_2] at h
    refine r_iload (pc := 38) (i := 6) C dX6_dry_38 rfl ?_
    refine r_iload_n (pc := 40) (i := 1) C dX6_dry_40 rfl rfl ?_
    refine r_icmpge (pc := 41) (tgt := 63) C dX6_dry_41 (by decide) h (fun h => ?_) (fun h => ?_)
    · refine r_pick (lv' := [(2, .int x2), (4, .int z4), (5, .int z5)]) [2, 4, 5] rfl ?_
      exact hK _ _ _ h
    · refine r_iload (pc := 44) (i := 4) C dX6_dry_44 rfl ?_
      refine r_iload_n (pc := 46) (i := 3) C dX6_dry_46 rfl rfl ?_
      refine r_imul (pc := 47) C dX6_dry_47 ?_
      refine r_istore (pc := 48) (i := 4) C dX6_dry_48 (by decide) ?_
      refine r_iload (pc := 50) (i := 5) C dX6_dry_50 rfl ?_
      refine r_bipush (pc := 52) (v := 10) C dX6_dry_52 (by decide) ?_
      refine r_imul (pc := 54) C dX6_dry_54 ?_
      refine r_istore (pc := 55) (i := 5) C dX6_dry_55 (by decide) ?_
      refine r_iinc (pc := 57) (i := 6) (v := (z6 + 1)) C dX6_dry_57 rfl rfl (by decide) ?_
      refine r_goto (pc := 60) (tgt := 38) C dX6_dry_60 (by decide) ?_
      refine r_pick (lv' := [(1, .int x1), (2, .int x2), (3, .int x3), (4, .int (z4 * x3)), (5, .int (z5 * 10)), (6, .int (z6 + 1))]) [1, 2, 3, 4, 5, 6] rfl ?_
      exact ih _ _ _ _ h
theorem w_X6_dry {B F : Nat} {d : Nat} {σ : MM} {a0 : Nat} {x1 : Int32} {x2 : Int32} {rf : Int32} {σf : MM} (hd : 4 ≤ d) (h : g_X6_dry F σ a0 x1 x2 = some (rf, σf)) : xMA B yX6_dry cX6_dry 7 (some .int) d 0 0 [rv B a0, .int x1, .int x2] σ (some (.int rf)) σf := by
  refine xMA.of (by decide +kernel) (Nat.le_of_ble_eq_true rfl) (cat_rv (cat_int (cat_int cat_nil))) (fun G C E => ?_)
  unfold g_X6_dry at h
  obtain ⟨-, h⟩ := r_ck h
  refine r_iload_n (pc := 0) (i := 1) C dX6_dry_0 rfl rfl ?_
  refine r_iconst (pc := 1) (v := 1) C dX6_dry_1 (by decide) ?_
  refine r_bipush (pc := 2) (v := 9) C dX6_dry_2 (by decide) ?_
  refine r_callSI (pc := 4) (As := [.int x1, .int 1, .int 9]) (st := []) C cs_X6_123_X6_in h (fun _ _ e => w_X6_in (Nat.le_refl 0) e) (Nat.le_trans (Nat.le_of_ble_eq_true rfl) hd) (Nat.le_of_ble_eq_true rfl) dX6_dry_4 (fun v2 σ1 h => ?_)
  refine r_ifeq (pc := 7) (tgt := 19) C dX6_dry_7 (by decide) h (fun h => ?_) (fun h => ?_)
  · refine r_iconst (pc := 19) (v := (-1)) C dX6_dry_19 (by decide) ?_
    exact r_iret (pc := 20) C rfl dX6_dry_20 h E
  · refine r_iload_n (pc := 10) (i := 2) C dX6_dry_10 rfl rfl ?_
    refine r_iconst (pc := 11) (v := 0) C dX6_dry_11 (by decide) ?_
    refine r_iconst (pc := 12) (v := 1) C dX6_dry_12 (by decide) ?_
    refine r_callSI (pc := 13) (As := [.int x2, .int 0, .int 1]) (st := []) C cs_X6_123_X6_in h (fun _ _ e => w_X6_in (Nat.le_refl 0) e) (Nat.le_trans (Nat.le_of_ble_eq_true rfl) hd) (Nat.le_of_ble_eq_true rfl) dX6_dry_13 (fun v4 σ3 h => ?_)
    refine r_ifne (pc := 16) (tgt := 21) C dX6_dry_16 (by decide) h (fun h => ?_) (fun h => ?_)
    · refine r_bipush (pc := 21) (v := 10) C dX6_dry_21 (by decide) ?_
      refine r_aload_n (pc := 23) (i := 0) C dX6_dry_23 rfl rfl ?_
      refine r_callVI (pc := 24) (As := []) (st := [.int 10]) C cs_X6_303_X6_rainBy h (fun _ _ e => w_X6_rainBy (Nat.le_refl 3) e) (fun _ _ e => t_X6_rainBy e) (Nat.le_trans (Nat.le_of_ble_eq_true rfl) hd) (Nat.le_of_ble_eq_true rfl) dX6_dry_24 (fun v6 σ5 h => ?_)
      refine r_isub (pc := 27) C dX6_dry_27 ?_
      refine r_istore_n (pc := 28) (i := 3) C dX6_dry_28 rfl (by decide) ?_
      refine r_iconst (pc := 29) (v := 1) C dX6_dry_29 (by decide) ?_
      refine r_istore (pc := 30) (i := 4) C dX6_dry_30 (by decide) ?_
      refine r_iconst (pc := 32) (v := 1) C dX6_dry_32 (by decide) ?_
      refine r_istore (pc := 33) (i := 5) C dX6_dry_33 (by decide) ?_
      refine r_iconst (pc := 35) (v := 0) C dX6_dry_35 (by decide) ?_
      refine r_istore (pc := 36) (i := 6) C dX6_dry_36 (by decide) ?_
      refine r_pick (lv' := [(1, .int x1), (2, .int x2), (3, .int (10 - v6)), (4, .int 1), (5, .int 1), (6, .int 0)]) [1, 2, 3, 4, 5, 6] rfl ?_
      refine wl_X6_dry_38 hd C E (fun r4_8 r5_9 σ7 h => ?_) _ _ _ _ _ h
      refine r_iload (pc := 63) (i := 4) C dX6_dry_63 rfl ?_
      refine r_iload (pc := 65) (i := 5) C dX6_dry_65 rfl ?_
      refine r_callSI (pc := 67) (As := [.int r4_8, .int r5_9]) (st := []) C cs_X6_453_X6_gcd h (fun _ _ e => w_X6_gcd (Nat.le_refl 0) e) (Nat.le_trans (Nat.le_of_ble_eq_true rfl) hd) (Nat.le_of_ble_eq_true rfl) dX6_dry_67 (fun v11 σ10 h => ?_)
      refine r_istore (pc := 70) (i := 6) C dX6_dry_70 (by decide) ?_
      refine r_iload_n (pc := 72) (i := 2) C dX6_dry_72 rfl rfl ?_
      refine r_ifne (pc := 73) (tgt := 84) C dX6_dry_73 (by decide) h (fun h => ?_) (fun h => ?_)
      · refine r_iload (pc := 84) (i := 5) C dX6_dry_84 rfl ?_
        refine r_iload (pc := 86) (i := 6) C dX6_dry_86 rfl ?_
        refine r_idiv (pc := 88) C dX6_dry_88 h (fun v12 h => ?_)
        exact r_iret (pc := 89) C rfl dX6_dry_89 h E
      · refine r_iload (pc := 76) (i := 4) C dX6_dry_76 rfl ?_
        refine r_iload (pc := 78) (i := 6) C dX6_dry_78 rfl ?_
        refine r_idiv (pc := 80) C dX6_dry_80 h (fun v13 h => ?_)
        refine r_goto (pc := 81) (tgt := 89) C dX6_dry_81 (by decide) ?_
        exact r_iret (pc := 89) C rfl dX6_dry_89 h E
    · refine r_iconst (pc := 19) (v := (-1)) C dX6_dry_19 (by decide) ?_
      exact r_iret (pc := 20) C rfl dX6_dry_20 h E
theorem t_X6_dry {F : Nat} {σ : MM} {a0 : Nat} {x1 : Int32} {x2 : Int32} {r : Int32 × MM} (h : g_X6_dry F σ a0 x1 x2 = some r) : mT σ a0 = (5, 62) := by
  unfold g_X6_dry at h
  exact (r_ck h).1
def g_X6_seed (F : Nat) (σ : MM) (a0 : Nat) (x1 : Int32) : Option (Int32 × MM) := if mT σ a0 = (5, 62) then (bq (g_X6_in F σ x1 0 65535) fun v2 σ1 => if v2 = 0 then (some (0, σ1)) else ((gP σ1 a0 5 62 0).bind fun p3 => (sI σ1 p3 158 x1).bind fun σ4 => some (1, σ4))) else none
theorem w_X6_seed {B F : Nat} {d : Nat} {σ : MM} {a0 : Nat} {x1 : Int32} {rf : Int32} {σf : MM} (hd : 1 ≤ d) (h : g_X6_seed F σ a0 x1 = some (rf, σf)) : xMA B yX6_seed cX6_seed 2 (some .boolean) d 0 0 [rv B a0, .int x1] σ (some (.int rf)) σf := by
  refine xMA.of (by decide +kernel) (Nat.le_of_ble_eq_true rfl) (cat_rv (cat_int cat_nil)) (fun G C E => ?_)
  unfold g_X6_seed at h
  obtain ⟨-, h⟩ := r_ck h
  refine r_iload_n (pc := 0) (i := 1) C dX6_seed_0 rfl rfl ?_
  refine r_iconst (pc := 1) (v := 0) C dX6_seed_1 (by decide) ?_
  refine r_ldc_w (pc := 2) C q1885 dX6_seed_2 ?_
  refine r_callSI (pc := 5) (As := [.int x1, .int 0, .int 65535]) (st := []) C cs_X6_123_X6_in h (fun _ _ e => w_X6_in (Nat.le_refl 0) e) (Nat.le_trans (Nat.le_of_ble_eq_true rfl) hd) (Nat.le_of_ble_eq_true rfl) dX6_seed_5 (fun v2 σ1 h => ?_)
  refine r_ifne (pc := 8) (tgt := 13) C dX6_seed_8 (by decide) h (fun h => ?_) (fun h => ?_)
  · refine r_aload_n (pc := 13) (i := 0) C dX6_seed_13 rfl rfl ?_
    refine r_getP (pc := 14) C fd_X6_7 rfl dX6_seed_14 h (fun p3 h => ?_)
    refine r_sipush (pc := 17) (v := 158) C dX6_seed_17 (by decide) ?_
    refine r_iload_n (pc := 20) (i := 1) C dX6_seed_20 rfl rfl ?_
    refine r_iast (pc := 21) C dX6_seed_21 h (fun σ4 h => ?_)
    refine r_iconst (pc := 22) (v := 1) C dX6_seed_22 (by decide) ?_
    exact r_zretL (pc := 23) C rfl dX6_seed_23 (Or.inr rfl) h E
  · refine r_iconst (pc := 11) (v := 0) C dX6_seed_11 (by decide) ?_
    exact r_zretL (pc := 12) C rfl dX6_seed_12 (Or.inl rfl) h E
theorem t_X6_seed {F : Nat} {σ : MM} {a0 : Nat} {x1 : Int32} {r : Int32 × MM} (h : g_X6_seed F σ a0 x1 = some r) : mT σ a0 = (5, 62) := by
  unfold g_X6_seed at h
  exact (r_ck h).1
