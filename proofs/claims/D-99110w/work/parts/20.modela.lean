set_option maxRecDepth 100000
def g_X6_in (F : Nat) (σ : MM) (x0 : Int32) (x1 : Int32) (x2 : Int32) : Option (Int32 × MM) := if x0 < x1 then (some (0, σ)) else (if x2 < x0 then (some (0, σ)) else (some (1, σ)))
theorem w_X6_in {B F : Nat} {d : Nat} {σ : MM} {x0 : Int32} {x1 : Int32} {x2 : Int32} {rf : Int32} {σf : MM} (hd : 0 ≤ d) (h : g_X6_in F σ x0 x1 x2 = some (rf, σf)) : xMA B yX6_in cX6_in 3 (some .boolean) d 0 0 [.int x0, .int x1, .int x2] σ (some (.int rf)) σf := by
  refine xMA.of (by decide +kernel) (Nat.le_of_ble_eq_true rfl) (cat_int (cat_int (cat_int cat_nil))) (fun G C E => ?_)
  unfold g_X6_in at h
  refine r_iload_n (pc := 0) (i := 0) C dX6_in_0 rfl rfl ?_
  refine r_iload_n (pc := 1) (i := 1) C dX6_in_1 rfl rfl ?_
  refine r_icmplt (pc := 2) (tgt := 14) C dX6_in_2 (by decide) h (fun h => ?_) (fun h => ?_)
  · refine r_iconst (pc := 14) (v := 0) C dX6_in_14 (by decide) ?_
    exact r_zretL (pc := 15) C rfl dX6_in_15 (Or.inl rfl) h E
  · refine r_iload_n (pc := 5) (i := 0) C dX6_in_5 rfl rfl ?_
    refine r_iload_n (pc := 6) (i := 2) C dX6_in_6 rfl rfl ?_
    refine r_icmpgt (pc := 7) (tgt := 14) C dX6_in_7 (by decide) h (fun h => ?_) (fun h => ?_)
    · refine r_iconst (pc := 14) (v := 0) C dX6_in_14 (by decide) ?_
      exact r_zretL (pc := 15) C rfl dX6_in_15 (Or.inl rfl) h E
    · refine r_iconst (pc := 10) (v := 1) C dX6_in_10 (by decide) ?_
      refine r_goto (pc := 11) (tgt := 15) C dX6_in_11 (by decide) ?_
      exact r_zretL (pc := 15) C rfl dX6_in_15 (Or.inr rfl) h E
theorem yd_X6_in : xYd yX6_in 3 := ⟨by decide +kernel, by decide +kernel, by decide +kernel⟩
theorem cs_X6_123_X6_in : xCS RX6 123 yX6_in cX6_in 3 (some .boolean) 3 := ⟨by decide, yd_X6_in, Or.inl (lw_S q1456 q1457 q122 q1458)⟩
theorem fd_X6_127 : xFg RX6 127 5 62 5 := ⟨_, rfl, rfl, by decide, by decide, in_X6, Or.inl q1270⟩
theorem ft_X6_5 : xFt 5 5 .int false := ⟨_, rfl, by decide +kernel, rfl, rfl⟩
theorem fd_X6_19 : xFg RX6 19 5 62 3 := ⟨_, rfl, rfl, by decide, by decide, in_X6, Or.inl q1268⟩
theorem ft_X6_3 : xFt 5 3 (.array .int) true := ⟨_, rfl, by decide +kernel, rfl, rfl⟩
theorem fd_X6_22 : xFg RX6 22 5 62 4 := ⟨_, rfl, rfl, by decide, by decide, in_X6, Or.inl q1269⟩
theorem ft_X6_4 : xFt 5 4 (.array .int) true := ⟨_, rfl, by decide +kernel, rfl, rfl⟩
def g_X6_person (F : Nat) (σ : MM) (a0 : Nat) (x1 : Int32) (x2 : Int32) (x3 : Int32) : Option (Int32 × MM) := if mT σ a0 = (5, 62) then (bq (g_X6_in F σ x1 0 9) fun v2 σ1 => if v2 = 0 then (some (0, σ1)) else (bq (g_X6_in F σ1 x2 0 9) fun v4 σ3 => if v4 = 0 then (some (0, σ3)) else (bq (g_X6_in F σ3 x3 0 9) fun v6 σ5 => if v6 = 0 then (some (0, σ5)) else ((gI σ5 a0 5 62 5).bind fun v7 => (pI σ5 a0 5 62 5 ((v7 ||| ((1 : Int32) <<< (x1 &&& 31))))).bind fun σ8 => (gP σ8 a0 5 62 3).bind fun p9 => (sI σ8 p9 x1 x2).bind fun σ10 => (gP σ10 a0 5 62 4).bind fun p11 => (sI σ10 p11 x1 x3).bind fun σ12 => some (1, σ12))))) else none
theorem w_X6_person {B F : Nat} {d : Nat} {σ : MM} {a0 : Nat} {x1 : Int32} {x2 : Int32} {x3 : Int32} {rf : Int32} {σf : MM} (hd : 1 ≤ d) (h : g_X6_person F σ a0 x1 x2 x3 = some (rf, σf)) : xMA B yX6_person cX6_person 4 (some .boolean) d 0 0 [rv B a0, .int x1, .int x2, .int x3] σ (some (.int rf)) σf := by
  refine xMA.of (by decide +kernel) (Nat.le_of_ble_eq_true rfl) (cat_rv (cat_int (cat_int (cat_int cat_nil)))) (fun G C E => ?_)
  unfold g_X6_person at h
  obtain ⟨-, h⟩ := r_ck h
  refine r_iload_n (pc := 0) (i := 1) C dX6_person_0 rfl rfl ?_
  refine r_iconst (pc := 1) (v := 0) C dX6_person_1 (by decide) ?_
  refine r_bipush (pc := 2) (v := 9) C dX6_person_2 (by decide) ?_
  refine r_callSI (pc := 4) (As := [.int x1, .int 0, .int 9]) (st := []) C cs_X6_123_X6_in h (fun _ _ e => w_X6_in (Nat.le_refl 0) e) (Nat.le_trans (Nat.le_of_ble_eq_true rfl) hd) (Nat.le_of_ble_eq_true rfl) dX6_person_4 (fun v2 σ1 h => ?_)
  refine r_ifeq (pc := 7) (tgt := 30) C dX6_person_7 (by decide) h (fun h => ?_) (fun h => ?_)
  · refine r_iconst (pc := 30) (v := 0) C dX6_person_30 (by decide) ?_
    exact r_zretL (pc := 31) C rfl dX6_person_31 (Or.inl rfl) h E
  · refine r_iload_n (pc := 10) (i := 2) C dX6_person_10 rfl rfl ?_
    refine r_iconst (pc := 11) (v := 0) C dX6_person_11 (by decide) ?_
    refine r_bipush (pc := 12) (v := 9) C dX6_person_12 (by decide) ?_
    refine r_callSI (pc := 14) (As := [.int x2, .int 0, .int 9]) (st := []) C cs_X6_123_X6_in h (fun _ _ e => w_X6_in (Nat.le_refl 0) e) (Nat.le_trans (Nat.le_of_ble_eq_true rfl) hd) (Nat.le_of_ble_eq_true rfl) dX6_person_14 (fun v4 σ3 h => ?_)
    refine r_ifeq (pc := 17) (tgt := 30) C dX6_person_17 (by decide) h (fun h => ?_) (fun h => ?_)
    · refine r_iconst (pc := 30) (v := 0) C dX6_person_30 (by decide) ?_
      exact r_zretL (pc := 31) C rfl dX6_person_31 (Or.inl rfl) h E
    · refine r_iload_n (pc := 20) (i := 3) C dX6_person_20 rfl rfl ?_
      refine r_iconst (pc := 21) (v := 0) C dX6_person_21 (by decide) ?_
      refine r_bipush (pc := 22) (v := 9) C dX6_person_22 (by decide) ?_
      refine r_callSI (pc := 24) (As := [.int x3, .int 0, .int 9]) (st := []) C cs_X6_123_X6_in h (fun _ _ e => w_X6_in (Nat.le_refl 0) e) (Nat.le_trans (Nat.le_of_ble_eq_true rfl) hd) (Nat.le_of_ble_eq_true rfl) dX6_person_24 (fun v6 σ5 h => ?_)
      refine r_ifne (pc := 27) (tgt := 32) C dX6_person_27 (by decide) h (fun h => ?_) (fun h => ?_)
      · refine r_aload_n (pc := 32) (i := 0) C dX6_person_32 rfl rfl ?_
        refine r_aload_n (pc := 33) (i := 0) C dX6_person_33 rfl rfl ?_
        refine r_getI (pc := 34) C fd_X6_127 rfl dX6_person_34 h (fun v7 h => ?_)
        refine r_iconst (pc := 37) (v := 1) C dX6_person_37 (by decide) ?_
        refine r_iload_n (pc := 38) (i := 1) C dX6_person_38 rfl rfl ?_
        refine r_ishl (pc := 39) C dX6_person_39 ?_
        refine r_ior (pc := 40) C dX6_person_40 ?_
        refine r_putI (pc := 41) C fd_X6_127 ft_X6_5 dX6_person_41 h (fun σ8 h => ?_)
        refine r_aload_n (pc := 44) (i := 0) C dX6_person_44 rfl rfl ?_
        refine r_getP (pc := 45) C fd_X6_19 rfl dX6_person_45 h (fun p9 h => ?_)
        refine r_iload_n (pc := 48) (i := 1) C dX6_person_48 rfl rfl ?_
        refine r_iload_n (pc := 49) (i := 2) C dX6_person_49 rfl rfl ?_
        refine r_iast (pc := 50) C dX6_person_50 h (fun σ10 h => ?_)
        refine r_aload_n (pc := 51) (i := 0) C dX6_person_51 rfl rfl ?_
        refine r_getP (pc := 52) C fd_X6_22 rfl dX6_person_52 h (fun p11 h => ?_)
        refine r_iload_n (pc := 55) (i := 1) C dX6_person_55 rfl rfl ?_
        refine r_iload_n (pc := 56) (i := 3) C dX6_person_56 rfl rfl ?_
        refine r_iast (pc := 57) C dX6_person_57 h (fun σ12 h => ?_)
        refine r_iconst (pc := 58) (v := 1) C dX6_person_58 (by decide) ?_
        exact r_zretL (pc := 59) C rfl dX6_person_59 (Or.inr rfl) h E
      · refine r_iconst (pc := 30) (v := 0) C dX6_person_30 (by decide) ?_
        exact r_zretL (pc := 31) C rfl dX6_person_31 (Or.inl rfl) h E
theorem t_X6_person {F : Nat} {σ : MM} {a0 : Nat} {x1 : Int32} {x2 : Int32} {x3 : Int32} {r : Int32 × MM} (h : g_X6_person F σ a0 x1 x2 x3 = some r) : mT σ a0 = (5, 62) := by
  unfold g_X6_person at h
  exact (r_ck h).1
def g_X6_has (F : Nat) (σ : MM) (x0 : Int32) (x1 : Int32) : Option (Int32 × MM) := if ((x0 >>> (x1 &&& 31)) &&& 1) = 1 then (some (1, σ)) else (some (0, σ))
theorem w_X6_has {B F : Nat} {d : Nat} {σ : MM} {x0 : Int32} {x1 : Int32} {rf : Int32} {σf : MM} (hd : 0 ≤ d) (h : g_X6_has F σ x0 x1 = some (rf, σf)) : xMA B yX6_has cX6_has 2 (some .boolean) d 0 0 [.int x0, .int x1] σ (some (.int rf)) σf := by
  refine xMA.of (by decide +kernel) (Nat.le_of_ble_eq_true rfl) (cat_int (cat_int cat_nil)) (fun G C E => ?_)
  unfold g_X6_has at h
  refine r_iload_n (pc := 0) (i := 0) C dX6_has_0 rfl rfl ?_
  refine r_iload_n (pc := 1) (i := 1) C dX6_has_1 rfl rfl ?_
  refine r_ishr (pc := 2) C dX6_has_2 ?_
  refine r_iconst (pc := 3) (v := 1) C dX6_has_3 (by decide) ?_
  refine r_iand (pc := 4) C dX6_has_4 ?_
  refine r_iconst (pc := 5) (v := 1) C dX6_has_5 (by decide) ?_
  refine r_icmpne (pc := 6) (tgt := 13) C dX6_has_6 (by decide) h (fun h => ?_) (fun h => ?_)
  · refine r_iconst (pc := 13) (v := 0) C dX6_has_13 (by decide) ?_
    exact r_zretL (pc := 14) C rfl dX6_has_14 (Or.inl rfl) h E
  · refine r_iconst (pc := 9) (v := 1) C dX6_has_9 (by decide) ?_
    refine r_goto (pc := 10) (tgt := 14) C dX6_has_10 (by decide) ?_
    exact r_zretL (pc := 14) C rfl dX6_has_14 (Or.inr rfl) h E
theorem yd_X6_has : xYd yX6_has 2 := ⟨by decide +kernel, by decide +kernel, by decide +kernel⟩
theorem cs_X6_131_X6_has : xCS RX6 131 yX6_has cX6_has 2 (some .boolean) 2 := ⟨by decide, yd_X6_has, Or.inl (lw_S q1471 q1472 q122 q1473)⟩
def g_X6_isPerson (F : Nat) (σ : MM) (a0 : Nat) (x1 : Int32) : Option (Int32 × MM) := if mT σ a0 = (5, 62) then (bq (g_X6_in F σ x1 0 9) fun v2 σ1 => if v2 = 0 then (some (0, σ1)) else ((gI σ1 a0 5 62 5).bind fun v3 => bq (g_X6_has F σ1 v3 x1) fun v5 σ4 => if v5 = 0 then (some (0, σ4)) else (some (1, σ4)))) else none
theorem w_X6_isPerson {B F : Nat} {d : Nat} {σ : MM} {a0 : Nat} {x1 : Int32} {rf : Int32} {σf : MM} (hd : 1 ≤ d) (h : g_X6_isPerson F σ a0 x1 = some (rf, σf)) : xMA B yX6_isPerson cX6_isPerson 2 (some .boolean) d 0 0 [rv B a0, .int x1] σ (some (.int rf)) σf := by
  refine xMA.of (by decide +kernel) (Nat.le_of_ble_eq_true rfl) (cat_rv (cat_int cat_nil)) (fun G C E => ?_)
  unfold g_X6_isPerson at h
  obtain ⟨-, h⟩ := r_ck h
  refine r_iload_n (pc := 0) (i := 1) C dX6_isPerson_0 rfl rfl ?_
  refine r_iconst (pc := 1) (v := 0) C dX6_isPerson_1 (by decide) ?_
  refine r_bipush (pc := 2) (v := 9) C dX6_isPerson_2 (by decide) ?_
  refine r_callSI (pc := 4) (As := [.int x1, .int 0, .int 9]) (st := []) C cs_X6_123_X6_in h (fun _ _ e => w_X6_in (Nat.le_refl 0) e) (Nat.le_trans (Nat.le_of_ble_eq_true rfl) hd) (Nat.le_of_ble_eq_true rfl) dX6_isPerson_4 (fun v2 σ1 h => ?_)
  refine r_ifeq (pc := 7) (tgt := 25) C dX6_isPerson_7 (by decide) h (fun h => ?_) (fun h => ?_)
  · refine r_iconst (pc := 25) (v := 0) C dX6_isPerson_25 (by decide) ?_
    exact r_zretL (pc := 26) C rfl dX6_isPerson_26 (Or.inl rfl) h E
  · refine r_aload_n (pc := 10) (i := 0) C dX6_isPerson_10 rfl rfl ?_
    refine r_getI (pc := 11) C fd_X6_127 rfl dX6_isPerson_11 h (fun v3 h => ?_)
    refine r_iload_n (pc := 14) (i := 1) C dX6_isPerson_14 rfl rfl ?_
    refine r_callSI (pc := 15) (As := [.int v3, .int x1]) (st := []) C cs_X6_131_X6_has h (fun _ _ e => w_X6_has (Nat.le_refl 0) e) (Nat.le_trans (Nat.le_of_ble_eq_true rfl) hd) (Nat.le_of_ble_eq_true rfl) dX6_isPerson_15 (fun v5 σ4 h => ?_)
    refine r_ifeq (pc := 18) (tgt := 25) C dX6_isPerson_18 (by decide) h (fun h => ?_) (fun h => ?_)
    · refine r_iconst (pc := 25) (v := 0) C dX6_isPerson_25 (by decide) ?_
      exact r_zretL (pc := 26) C rfl dX6_isPerson_26 (Or.inl rfl) h E
    · refine r_iconst (pc := 21) (v := 1) C dX6_isPerson_21 (by decide) ?_
      refine r_goto (pc := 22) (tgt := 26) C dX6_isPerson_22 (by decide) ?_
      exact r_zretL (pc := 26) C rfl dX6_isPerson_26 (Or.inr rfl) h E
theorem t_X6_isPerson {F : Nat} {σ : MM} {a0 : Nat} {x1 : Int32} {r : Int32 × MM} (h : g_X6_isPerson F σ a0 x1 = some r) : mT σ a0 = (5, 62) := by
  unfold g_X6_isPerson at h
  exact (r_ck h).1
theorem yd_X6_isPerson : xYd yX6_isPerson 1 := ⟨by decide +kernel, by decide +kernel, by decide +kernel⟩
theorem cs_X6_135_X6_isPerson : xCV RX6 135 yX6_isPerson cX6_isPerson 2 (some .boolean) 5 62 1 := ⟨by decide, by decide, _, rfl, yd_X6_isPerson, Or.inl ⟨rfl, lw_V q1467 q1469 qs46 q122 q1470⟩⟩
def g_X6_areTwo (F : Nat) (σ : MM) (a0 : Nat) (x1 : Int32) (x2 : Int32) : Option (Int32 × MM) := if mT σ a0 = (5, 62) then (bq (g_X6_isPerson F σ a0 x1) fun v2 σ1 => if v2 = 0 then (some (0, σ1)) else (bq (g_X6_isPerson F σ1 a0 x2) fun v4 σ3 => if v4 = 0 then (some (0, σ3)) else (if x1 = x2 then (some (0, σ3)) else (some (1, σ3))))) else none
theorem w_X6_areTwo {B F : Nat} {d : Nat} {σ : MM} {a0 : Nat} {x1 : Int32} {x2 : Int32} {rf : Int32} {σf : MM} (hd : 2 ≤ d) (h : g_X6_areTwo F σ a0 x1 x2 = some (rf, σf)) : xMA B yX6_areTwo cX6_areTwo 3 (some .boolean) d 0 0 [rv B a0, .int x1, .int x2] σ (some (.int rf)) σf := by
  refine xMA.of (by decide +kernel) (Nat.le_of_ble_eq_true rfl) (cat_rv (cat_int (cat_int cat_nil))) (fun G C E => ?_)
  unfold g_X6_areTwo at h
  obtain ⟨-, h⟩ := r_ck h
  refine r_aload_n (pc := 0) (i := 0) C dX6_areTwo_0 rfl rfl ?_
  refine r_iload_n (pc := 1) (i := 1) C dX6_areTwo_1 rfl rfl ?_
  refine r_callVI (pc := 2) (As := [.int x1]) (st := []) C cs_X6_135_X6_isPerson h (fun _ _ e => w_X6_isPerson (Nat.le_refl 1) e) (fun _ _ e => t_X6_isPerson e) (Nat.le_trans (Nat.le_of_ble_eq_true rfl) hd) (Nat.le_of_ble_eq_true rfl) dX6_areTwo_2 (fun v2 σ1 h => ?_)
  refine r_ifeq (pc := 5) (tgt := 25) C dX6_areTwo_5 (by decide) h (fun h => ?_) (fun h => ?_)
  · refine r_iconst (pc := 25) (v := 0) C dX6_areTwo_25 (by decide) ?_
    exact r_zretL (pc := 26) C rfl dX6_areTwo_26 (Or.inl rfl) h E
  · refine r_aload_n (pc := 8) (i := 0) C dX6_areTwo_8 rfl rfl ?_
    refine r_iload_n (pc := 9) (i := 2) C dX6_areTwo_9 rfl rfl ?_
    refine r_callVI (pc := 10) (As := [.int x2]) (st := []) C cs_X6_135_X6_isPerson h (fun _ _ e => w_X6_isPerson (Nat.le_refl 1) e) (fun _ _ e => t_X6_isPerson e) (Nat.le_trans (Nat.le_of_ble_eq_true rfl) hd) (Nat.le_of_ble_eq_true rfl) dX6_areTwo_10 (fun v4 σ3 h => ?_)
    refine r_ifeq (pc := 13) (tgt := 25) C dX6_areTwo_13 (by decide) h (fun h => ?_) (fun h => ?_)
    · refine r_iconst (pc := 25) (v := 0) C dX6_areTwo_25 (by decide) ?_
      exact r_zretL (pc := 26) C rfl dX6_areTwo_26 (Or.inl rfl) h E
    · refine r_iload_n (pc := 16) (i := 1) C dX6_areTwo_16 rfl rfl ?_
      refine r_iload_n (pc := 17) (i := 2) C dX6_areTwo_17 rfl rfl ?_
      refine r_icmpeq (pc := 18) (tgt := 25) C dX6_areTwo_18 (by decide) h (fun h => ?_) (fun h => ?_)
      · refine r_iconst (pc := 25) (v := 0) C dX6_areTwo_25 (by decide) ?_
        exact r_zretL (pc := 26) C rfl dX6_areTwo_26 (Or.inl rfl) h E
      · refine r_iconst (pc := 21) (v := 1) C dX6_areTwo_21 (by decide) ?_
        refine r_goto (pc := 22) (tgt := 26) C dX6_areTwo_22 (by decide) ?_
        exact r_zretL (pc := 26) C rfl dX6_areTwo_26 (Or.inr rfl) h E
theorem t_X6_areTwo {F : Nat} {σ : MM} {a0 : Nat} {x1 : Int32} {x2 : Int32} {r : Int32 × MM} (h : g_X6_areTwo F σ a0 x1 x2 = some r) : mT σ a0 = (5, 62) := by
  unfold g_X6_areTwo at h
  exact (r_ck h).1
theorem yd_X6_areTwo : xYd yX6_areTwo 2 := ⟨by decide +kernel, by decide +kernel, by decide +kernel⟩
theorem cs_X6_153_X6_areTwo : xCV RX6 153 yX6_areTwo cX6_areTwo 3 (some .boolean) 5 62 2 := ⟨by decide, by decide, _, rfl, yd_X6_areTwo, Or.inl ⟨rfl, lw_V q1463 q1465 qs45 q122 q1466⟩⟩
theorem fd_X6_7 : xFg RX6 7 5 62 0 := ⟨_, rfl, rfl, by decide, by decide, in_X6, Or.inl q1265⟩
theorem ft_X6_0 : xFt 5 0 (.array .int) true := ⟨_, rfl, by decide +kernel, rfl, rfl⟩
def g_X6_debt (F : Nat) (σ : MM) (a0 : Nat) (x1 : Int32) (x2 : Int32) (x3 : Int32) : Option (Int32 × MM) := if mT σ a0 = (5, 62) then (bq (g_X6_areTwo F σ a0 x1 x2) fun v2 σ1 => if v2 = 0 then (some (0, σ1)) else (bq (g_X6_in F σ1 x3 0 99) fun v4 σ3 => if v4 = 0 then (some (0, σ3)) else ((gP σ3 a0 5 62 0).bind fun p5 => (sI σ3 p5 (((0 + (10 * x1)) + x2)) x3).bind fun σ6 => some (1, σ6)))) else none
theorem w_X6_debt {B F : Nat} {d : Nat} {σ : MM} {a0 : Nat} {x1 : Int32} {x2 : Int32} {x3 : Int32} {rf : Int32} {σf : MM} (hd : 3 ≤ d) (h : g_X6_debt F σ a0 x1 x2 x3 = some (rf, σf)) : xMA B yX6_debt cX6_debt 4 (some .boolean) d 0 0 [rv B a0, .int x1, .int x2, .int x3] σ (some (.int rf)) σf := by
  refine xMA.of (by decide +kernel) (Nat.le_of_ble_eq_true rfl) (cat_rv (cat_int (cat_int (cat_int cat_nil)))) (fun G C E => ?_)
  unfold g_X6_debt at h
  obtain ⟨-, h⟩ := r_ck h
  refine r_aload_n (pc := 0) (i := 0) C dX6_debt_0 rfl rfl ?_
  refine r_iload_n (pc := 1) (i := 1) C dX6_debt_1 rfl rfl ?_
  refine r_iload_n (pc := 2) (i := 2) C dX6_debt_2 rfl rfl ?_
  refine r_callVI (pc := 3) (As := [.int x1, .int x2]) (st := []) C cs_X6_153_X6_areTwo h (fun _ _ e => w_X6_areTwo (Nat.le_refl 2) e) (fun _ _ e => t_X6_areTwo e) (Nat.le_trans (Nat.le_of_ble_eq_true rfl) hd) (Nat.le_of_ble_eq_true rfl) dX6_debt_3 (fun v2 σ1 h => ?_)
  refine r_ifeq (pc := 6) (tgt := 19) C dX6_debt_6 (by decide) h (fun h => ?_) (fun h => ?_)
  · refine r_iconst (pc := 19) (v := 0) C dX6_debt_19 (by decide) ?_
    exact r_zretL (pc := 20) C rfl dX6_debt_20 (Or.inl rfl) h E
  · refine r_iload_n (pc := 9) (i := 3) C dX6_debt_9 rfl rfl ?_
    refine r_iconst (pc := 10) (v := 0) C dX6_debt_10 (by decide) ?_
    refine r_bipush (pc := 11) (v := 99) C dX6_debt_11 (by decide) ?_
    refine r_callSI (pc := 13) (As := [.int x3, .int 0, .int 99]) (st := []) C cs_X6_123_X6_in h (fun _ _ e => w_X6_in (Nat.le_refl 0) e) (Nat.le_trans (Nat.le_of_ble_eq_true rfl) hd) (Nat.le_of_ble_eq_true rfl) dX6_debt_13 (fun v4 σ3 h => ?_)
    refine r_ifne (pc := 16) (tgt := 21) C dX6_debt_16 (by decide) h (fun h => ?_) (fun h => ?_)
    · refine r_aload_n (pc := 21) (i := 0) C dX6_debt_21 rfl rfl ?_
      refine r_getP (pc := 22) C fd_X6_7 rfl dX6_debt_22 h (fun p5 h => ?_)
      refine r_iconst (pc := 25) (v := 0) C dX6_debt_25 (by decide) ?_
      refine r_bipush (pc := 26) (v := 10) C dX6_debt_26 (by decide) ?_
      refine r_iload_n (pc := 28) (i := 1) C dX6_debt_28 rfl rfl ?_
      refine r_imul (pc := 29) C dX6_debt_29 ?_
      refine r_iadd (pc := 30) C dX6_debt_30 ?_
      refine r_iload_n (pc := 31) (i := 2) C dX6_debt_31 rfl rfl ?_
      refine r_iadd (pc := 32) C dX6_debt_32 ?_
      refine r_iload_n (pc := 33) (i := 3) C dX6_debt_33 rfl rfl ?_
      refine r_iast (pc := 34) C dX6_debt_34 h (fun σ6 h => ?_)
      refine r_iconst (pc := 35) (v := 1) C dX6_debt_35 (by decide) ?_
      exact r_zretL (pc := 36) C rfl dX6_debt_36 (Or.inr rfl) h E
    · refine r_iconst (pc := 19) (v := 0) C dX6_debt_19 (by decide) ?_
      exact r_zretL (pc := 20) C rfl dX6_debt_20 (Or.inl rfl) h E
theorem t_X6_debt {F : Nat} {σ : MM} {a0 : Nat} {x1 : Int32} {x2 : Int32} {x3 : Int32} {r : Int32 × MM} (h : g_X6_debt F σ a0 x1 x2 x3 = some r) : mT σ a0 = (5, 62) := by
  unfold g_X6_debt at h
  exact (r_ck h).1
def g_X6_rests (F : Nat) (σ : MM) (a0 : Nat) (x1 : Int32) : Option (MM) := if mT σ a0 = (5, 62) then ((gP σ a0 5 62 0).bind fun p1 => (sI σ p1 151 x1).bind fun σ2 => (gP σ2 a0 5 62 0).bind fun p3 => (sI σ2 p3 153 ((-2))).bind fun σ4 => (gP σ4 a0 5 62 0).bind fun p5 => (sI σ4 p5 154 0).bind fun σ6 => some σ6) else none
theorem w_X6_rests {B F : Nat} {d : Nat} {σ : MM} {a0 : Nat} {x1 : Int32} {σf : MM} (hd : 0 ≤ d) (h : g_X6_rests F σ a0 x1 = some σf) : xMA B yX6_rests cX6_rests 2 none d 0 0 [rv B a0, .int x1] σ none σf := by
  refine xMA.of (by decide +kernel) (Nat.le_of_ble_eq_true rfl) (cat_rv (cat_int cat_nil)) (fun G C E => ?_)
  unfold g_X6_rests at h
  obtain ⟨-, h⟩ := r_ck h
  refine r_aload_n (pc := 0) (i := 0) C dX6_rests_0 rfl rfl ?_
  refine r_getP (pc := 1) C fd_X6_7 rfl dX6_rests_1 h (fun p1 h => ?_)
  refine r_sipush (pc := 4) (v := 151) C dX6_rests_4 (by decide) ?_
  refine r_iload_n (pc := 7) (i := 1) C dX6_rests_7 rfl rfl ?_
  refine r_iast (pc := 8) C dX6_rests_8 h (fun σ2 h => ?_)
  refine r_aload_n (pc := 9) (i := 0) C dX6_rests_9 rfl rfl ?_
  refine r_getP (pc := 10) C fd_X6_7 rfl dX6_rests_10 h (fun p3 h => ?_)
  refine r_sipush (pc := 13) (v := 153) C dX6_rests_13 (by decide) ?_
  refine r_bipush (pc := 16) (v := (-2)) C dX6_rests_16 (by decide) ?_
  refine r_iast (pc := 18) C dX6_rests_18 h (fun σ4 h => ?_)
  refine r_aload_n (pc := 19) (i := 0) C dX6_rests_19 rfl rfl ?_
  refine r_getP (pc := 20) C fd_X6_7 rfl dX6_rests_20 h (fun p5 h => ?_)
  refine r_sipush (pc := 23) (v := 154) C dX6_rests_23 (by decide) ?_
  refine r_iconst (pc := 26) (v := 0) C dX6_rests_26 (by decide) ?_
  refine r_iast (pc := 27) C dX6_rests_27 h (fun σ6 h => ?_)
  exact r_vret (pc := 28) C rfl dX6_rests_28 h E
theorem t_X6_rests {F : Nat} {σ : MM} {a0 : Nat} {x1 : Int32} {r : MM} (h : g_X6_rests F σ a0 x1 = some r) : mT σ a0 = (5, 62) := by
  unfold g_X6_rests at h
  exact (r_ck h).1
theorem yd_X6_rests : xYd yX6_rests 1 := ⟨by decide +kernel, by decide +kernel, by decide +kernel⟩
theorem cs_X6_156_X6_rests : xCV RX6 156 yX6_rests cX6_rests 2 none 5 62 1 := ⟨by decide, by decide, _, rfl, yd_X6_rests, Or.inl ⟨rfl, lw_V q1478 q1480 qs47 q122 q1481⟩⟩
def g_X6_coin (F : Nat) (σ : MM) (a0 : Nat) (x1 : Int32) : Option (Int32 × MM) := if mT σ a0 = (5, 62) then (bq (g_X6_isPerson F σ a0 x1) fun v2 σ1 => if v2 = 0 then (some (0, σ1)) else ((g_X6_rests F σ1 a0 x1).bind fun σ3 => some (1, σ3))) else none
theorem w_X6_coin {B F : Nat} {d : Nat} {σ : MM} {a0 : Nat} {x1 : Int32} {rf : Int32} {σf : MM} (hd : 2 ≤ d) (h : g_X6_coin F σ a0 x1 = some (rf, σf)) : xMA B yX6_coin cX6_coin 2 (some .boolean) d 0 0 [rv B a0, .int x1] σ (some (.int rf)) σf := by
  refine xMA.of (by decide +kernel) (Nat.le_of_ble_eq_true rfl) (cat_rv (cat_int cat_nil)) (fun G C E => ?_)
  unfold g_X6_coin at h
  obtain ⟨-, h⟩ := r_ck h
  refine r_aload_n (pc := 0) (i := 0) C dX6_coin_0 rfl rfl ?_
  refine r_iload_n (pc := 1) (i := 1) C dX6_coin_1 rfl rfl ?_
  refine r_callVI (pc := 2) (As := [.int x1]) (st := []) C cs_X6_135_X6_isPerson h (fun _ _ e => w_X6_isPerson (Nat.le_refl 1) e) (fun _ _ e => t_X6_isPerson e) (Nat.le_trans (Nat.le_of_ble_eq_true rfl) hd) (Nat.le_of_ble_eq_true rfl) dX6_coin_2 (fun v2 σ1 h => ?_)
  refine r_ifne (pc := 5) (tgt := 10) C dX6_coin_5 (by decide) h (fun h => ?_) (fun h => ?_)
  · refine r_aload_n (pc := 10) (i := 0) C dX6_coin_10 rfl rfl ?_
    refine r_iload_n (pc := 11) (i := 1) C dX6_coin_11 rfl rfl ?_
    refine r_callVV (pc := 12) (As := [.int x1]) (st := []) C cs_X6_156_X6_rests h (fun _ e => w_X6_rests (Nat.le_refl 0) e) (fun _ e => t_X6_rests e) (Nat.le_trans (Nat.le_of_ble_eq_true rfl) hd) (Nat.le_of_ble_eq_true rfl) dX6_coin_12 (fun σ3 h => ?_)
    refine r_iconst (pc := 15) (v := 1) C dX6_coin_15 (by decide) ?_
    exact r_zretL (pc := 16) C rfl dX6_coin_16 (Or.inr rfl) h E
  · refine r_iconst (pc := 8) (v := 0) C dX6_coin_8 (by decide) ?_
    exact r_zretL (pc := 9) C rfl dX6_coin_9 (Or.inl rfl) h E
theorem t_X6_coin {F : Nat} {σ : MM} {a0 : Nat} {x1 : Int32} {r : Int32 × MM} (h : g_X6_coin F σ a0 x1 = some r) : mT σ a0 = (5, 62) := by
  unfold g_X6_coin at h
  exact (r_ck h).1
theorem fd_X6_25 : xFg RX6 25 5 62 6 := ⟨_, rfl, rfl, by decide, by decide, in_X6, Or.inl q1271⟩
theorem ft_X6_6 : xFt 5 6 (.array .byte) true := ⟨_, rfl, by decide +kernel, rfl, rfl⟩
theorem fd_X6_160 : xFg RX6 160 5 62 7 := ⟨_, rfl, rfl, by decide, by decide, in_X6, Or.inl q1272⟩
theorem ft_X6_7 : xFt 5 7 .int false := ⟨_, rfl, by decide +kernel, rfl, rfl⟩
def l_X6_types_2 (K : MM → Option (MM)) (F : Nat) (a0 : Nat) (x1 : Int32) : Nat → Int32 → MM → Option (MM)
  | 0, _, _ => none
  | f + 1, z2, σ => if z2 < 0 then (K σ) else ((gP σ a0 5 62 6).bind fun p1 => (gI σ a0 5 62 7).bind fun v2 => (sB σ p1 v2 (((x1 >>> ((8 * z2) &&& 31))).toInt8.toInt32)).bind fun σ3 => (gI σ3 a0 5 62 7).bind fun v4 => (pI σ3 a0 5 62 7 ((v4 + 1))).bind fun σ5 => l_X6_types_2 K F a0 x1 f ((z2 + (-1))) σ5)
def g_X6_types (F : Nat) (σ : MM) (a0 : Nat) (x1 : Int32) : Option (MM) := if mT σ a0 = (5, 62) then (l_X6_types_2 (fun (σ6 : MM) => some σ6) F a0 x1 F 3 σ) else none
theorem wl_X6_types_2 {B : Nat} {G : XG} {d : Nat} {σf : MM} (hd : 0 ≤ d) (C : xC B G yX6_types cX6_types 3 none d 0 0) (E : xEnd B G none σf 0 0) {K : MM → Option (MM)} {F : Nat} {a0 : Nat} {x1 : Int32} (hK : ∀ (σ : MM), K σ = some σf → xV B G 0 0 σ 38 [] []) : ∀ (f : Nat) (z2 : Int32) (σ : MM), l_X6_types_2 K F a0 x1 f z2 σ = some σf → xV B G 0 0 σ 2 [(0, rv B a0), (1, .int x1), (2, .int z2)] [] := by
  intro f
  induction f with
  | zero =>
    intro z2 σ h
    have h : none = some σf := h
    cases h
  | succ f ih =>
    intro z2 σ h
    rw [l_X6_types_2.eq_2] at h
    refine r_iload_n (pc := 2) (i := 2) C dX6_types_2 rfl rfl ?_
    refine r_iflt (pc := 3) (tgt := 38) C dX6_types_3 (by decide) h (fun h => ?_) (fun h => ?_)
    · refine r_pick (lv' := []) [] rfl ?_
      exact hK _ h
    · refine r_aload_n (pc := 6) (i := 0) C dX6_types_6 rfl rfl ?_
      refine r_getP (pc := 7) C fd_X6_25 rfl dX6_types_7 h (fun p1 h => ?_)
      refine r_aload_n (pc := 10) (i := 0) C dX6_types_10 rfl rfl ?_
      refine r_getI (pc := 11) C fd_X6_160 rfl dX6_types_11 h (fun v2 h => ?_)
      refine r_iload_n (pc := 14) (i := 1) C dX6_types_14 rfl rfl ?_
      refine r_bipush (pc := 15) (v := 8) C dX6_types_15 (by decide) ?_
      refine r_iload_n (pc := 17) (i := 2) C dX6_types_17 rfl rfl ?_
      refine r_imul (pc := 18) C dX6_types_18 ?_
      refine r_ishr (pc := 19) C dX6_types_19 ?_
      refine r_i2b (pc := 20) C dX6_types_20 ?_
      refine r_bast (pc := 21) C dX6_types_21 h (fun σ3 h => ?_)
      refine r_aload_n (pc := 22) (i := 0) C dX6_types_22 rfl rfl ?_
      refine r_aload_n (pc := 23) (i := 0) C dX6_types_23 rfl rfl ?_
      refine r_getI (pc := 24) C fd_X6_160 rfl dX6_types_24 h (fun v4 h => ?_)
      refine r_iconst (pc := 27) (v := 1) C dX6_types_27 (by decide) ?_
      refine r_iadd (pc := 28) C dX6_types_28 ?_
      refine r_putI (pc := 29) C fd_X6_160 ft_X6_7 dX6_types_29 h (fun σ5 h => ?_)
      refine r_iinc (pc := 32) (i := 2) (v := (z2 + (-1))) C dX6_types_32 rfl rfl (by decide) ?_
      refine r_goto (pc := 35) (tgt := 2) C dX6_types_35 (by decide) ?_
      refine r_pick (lv' := [(0, rv B a0), (1, .int x1), (2, .int (z2 + (-1)))]) [0, 1, 2] rfl ?_
      exact ih _ _ h
theorem w_X6_types {B F : Nat} {d : Nat} {σ : MM} {a0 : Nat} {x1 : Int32} {σf : MM} (hd : 0 ≤ d) (h : g_X6_types F σ a0 x1 = some σf) : xMA B yX6_types cX6_types 3 none d 0 0 [rv B a0, .int x1] σ none σf := by
  refine xMA.of (by decide +kernel) (Nat.le_of_ble_eq_true rfl) (cat_rv (cat_int cat_nil)) (fun G C E => ?_)
  unfold g_X6_types at h
  obtain ⟨-, h⟩ := r_ck h
  refine r_iconst (pc := 0) (v := 3) C dX6_types_0 (by decide) ?_
  refine r_istore_n (pc := 1) (i := 2) C dX6_types_1 rfl (by decide) ?_
  refine r_pick (lv' := [(0, rv B a0), (1, .int x1), (2, .int 3)]) [0, 1, 2] rfl ?_
  refine wl_X6_types_2 hd C E (fun  σ6 h => ?_) _ _ _ h
  exact r_vret (pc := 38) C rfl dX6_types_38 h E
theorem t_X6_types {F : Nat} {σ : MM} {a0 : Nat} {x1 : Int32} {r : MM} (h : g_X6_types F σ a0 x1 = some r) : mT σ a0 = (5, 62) := by
  unfold g_X6_types at h
  exact (r_ck h).1
theorem yd_X6_types : xYd yX6_types 1 := ⟨by decide +kernel, by decide +kernel, by decide +kernel⟩
theorem cs_X6_163_X6_types : xCV RX6 163 yX6_types cX6_types 3 none 5 62 1 := ⟨by decide, by decide, _, rfl, yd_X6_types, Or.inl ⟨rfl, lw_V q1486 q1488 qs48 q122 q1489⟩⟩
def g_X6_feed (F : Nat) (σ : MM) (a0 : Nat) (x1 : Int32) (x2 : Int32) (x3 : Int32) (x4 : Int32) (x5 : Int32) : Option (Int32 × MM) := if mT σ a0 = (5, 62) then ((gI σ a0 5 62 7).bind fun v1 => if 260 < (v1 + 20) then (some ((-1), σ)) else ((g_X6_types F σ a0 x1).bind fun σ2 => (g_X6_types F σ2 a0 x2).bind fun σ3 => (g_X6_types F σ3 a0 x3).bind fun σ4 => (g_X6_types F σ4 a0 x4).bind fun σ5 => (g_X6_types F σ5 a0 x5).bind fun σ6 => (gI σ6 a0 5 62 7).bind fun v7 => some (v7, σ6))) else none
theorem w_X6_feed {B F : Nat} {d : Nat} {σ : MM} {a0 : Nat} {x1 : Int32} {x2 : Int32} {x3 : Int32} {x4 : Int32} {x5 : Int32} {rf : Int32} {σf : MM} (hd : 1 ≤ d) (h : g_X6_feed F σ a0 x1 x2 x3 x4 x5 = some (rf, σf)) : xMA B yX6_feed cX6_feed 6 (some .int) d 0 0 [rv B a0, .int x1, .int x2, .int x3, .int x4, .int x5] σ (some (.int rf)) σf := by
  refine xMA.of (by decide +kernel) (Nat.le_of_ble_eq_true rfl) (cat_rv (cat_int (cat_int (cat_int (cat_int (cat_int cat_nil)))))) (fun G C E => ?_)
  unfold g_X6_feed at h
  obtain ⟨-, h⟩ := r_ck h
  refine r_aload_n (pc := 0) (i := 0) C dX6_feed_0 rfl rfl ?_
  refine r_getI (pc := 1) C fd_X6_160 rfl dX6_feed_1 h (fun v1 h => ?_)
  refine r_bipush (pc := 4) (v := 20) C dX6_feed_4 (by decide) ?_
  refine r_iadd (pc := 6) C dX6_feed_6 ?_
  refine r_sipush (pc := 7) (v := 260) C dX6_feed_7 (by decide) ?_
  refine r_icmple (pc := 10) (tgt := 15) C dX6_feed_10 (by decide) h (fun h => ?_) (fun h => ?_)
  · refine r_aload_n (pc := 15) (i := 0) C dX6_feed_15 rfl rfl ?_
    refine r_iload_n (pc := 16) (i := 1) C dX6_feed_16 rfl rfl ?_
    refine r_callVV (pc := 17) (As := [.int x1]) (st := []) C cs_X6_163_X6_types h (fun _ e => w_X6_types (Nat.le_refl 0) e) (fun _ e => t_X6_types e) (Nat.le_trans (Nat.le_of_ble_eq_true rfl) hd) (Nat.le_of_ble_eq_true rfl) dX6_feed_17 (fun σ2 h => ?_)
    refine r_aload_n (pc := 20) (i := 0) C dX6_feed_20 rfl rfl ?_
    refine r_iload_n (pc := 21) (i := 2) C dX6_feed_21 rfl rfl ?_
    refine r_callVV (pc := 22) (As := [.int x2]) (st := []) C cs_X6_163_X6_types h (fun _ e => w_X6_types (Nat.le_refl 0) e) (fun _ e => t_X6_types e) (Nat.le_trans (Nat.le_of_ble_eq_true rfl) hd) (Nat.le_of_ble_eq_true rfl) dX6_feed_22 (fun σ3 h => ?_)
    refine r_aload_n (pc := 25) (i := 0) C dX6_feed_25 rfl rfl ?_
    refine r_iload_n (pc := 26) (i := 3) C dX6_feed_26 rfl rfl ?_
    refine r_callVV (pc := 27) (As := [.int x3]) (st := []) C cs_X6_163_X6_types h (fun _ e => w_X6_types (Nat.le_refl 0) e) (fun _ e => t_X6_types e) (Nat.le_trans (Nat.le_of_ble_eq_true rfl) hd) (Nat.le_of_ble_eq_true rfl) dX6_feed_27 (fun σ4 h => ?_)
    refine r_aload_n (pc := 30) (i := 0) C dX6_feed_30 rfl rfl ?_
    refine r_iload (pc := 31) (i := 4) C dX6_feed_31 rfl ?_
    refine r_callVV (pc := 33) (As := [.int x4]) (st := []) C cs_X6_163_X6_types h (fun _ e => w_X6_types (Nat.le_refl 0) e) (fun _ e => t_X6_types e) (Nat.le_trans (Nat.le_of_ble_eq_true rfl) hd) (Nat.le_of_ble_eq_true rfl) dX6_feed_33 (fun σ5 h => ?_)
    refine r_aload_n (pc := 36) (i := 0) C dX6_feed_36 rfl rfl ?_
    refine r_iload (pc := 37) (i := 5) C dX6_feed_37 rfl ?_
    refine r_callVV (pc := 39) (As := [.int x5]) (st := []) C cs_X6_163_X6_types h (fun _ e => w_X6_types (Nat.le_refl 0) e) (fun _ e => t_X6_types e) (Nat.le_trans (Nat.le_of_ble_eq_true rfl) hd) (Nat.le_of_ble_eq_true rfl) dX6_feed_39 (fun σ6 h => ?_)
    refine r_aload_n (pc := 42) (i := 0) C dX6_feed_42 rfl rfl ?_
    refine r_getI (pc := 43) C fd_X6_160 rfl dX6_feed_43 h (fun v7 h => ?_)
    exact r_iret (pc := 46) C rfl dX6_feed_46 h E
  · refine r_iconst (pc := 13) (v := (-1)) C dX6_feed_13 (by decide) ?_
    exact r_iret (pc := 14) C rfl dX6_feed_14 h E
theorem t_X6_feed {F : Nat} {σ : MM} {a0 : Nat} {x1 : Int32} {x2 : Int32} {x3 : Int32} {x4 : Int32} {x5 : Int32} {r : Int32 × MM} (h : g_X6_feed F σ a0 x1 x2 x3 x4 x5 = some r) : mT σ a0 = (5, 62) := by
  unfold g_X6_feed at h
  exact (r_ck h).1
theorem fd_X6_166 : xFg RX6 166 5 62 8 := ⟨_, rfl, rfl, by decide, by decide, in_X6, Or.inl q1273⟩
theorem ft_X6_8 : xFt 5 8 .int false := ⟨_, rfl, by decide +kernel, rfl, rfl⟩
theorem fd_X6_169 : xFg RX6 169 5 62 9 := ⟨_, rfl, rfl, by decide, by decide, in_X6, Or.inl q1274⟩
theorem ft_X6_9 : xFt 5 9 .int false := ⟨_, rfl, by decide +kernel, rfl, rfl⟩
def g_X6_here (F : Nat) (σ : MM) (a0 : Nat) : Option (Int32 × MM) := if mT σ a0 = (5, 62) then ((gI σ a0 5 62 8).bind fun v1 => (gI σ a0 5 62 9).bind fun v2 => if v1 < v2 then ((gP σ a0 5 62 6).bind fun p3 => (gI σ a0 5 62 8).bind fun v4 => (aI σ p3 21 v4).bind fun v5 => some ((v5 &&& 255), σ)) else (some ((-1), σ))) else none
theorem w_X6_here {B F : Nat} {d : Nat} {σ : MM} {a0 : Nat} {rf : Int32} {σf : MM} (hd : 0 ≤ d) (h : g_X6_here F σ a0 = some (rf, σf)) : xMA B yX6_here cX6_here 1 (some .int) d 0 0 [rv B a0] σ (some (.int rf)) σf := by
  refine xMA.of (by decide +kernel) (Nat.le_of_ble_eq_true rfl) (cat_rv cat_nil) (fun G C E => ?_)
  unfold g_X6_here at h
  obtain ⟨-, h⟩ := r_ck h
  refine r_aload_n (pc := 0) (i := 0) C dX6_here_0 rfl rfl ?_
  refine r_getI (pc := 1) C fd_X6_166 rfl dX6_here_1 h (fun v1 h => ?_)
  refine r_aload_n (pc := 4) (i := 0) C dX6_here_4 rfl rfl ?_
  refine r_getI (pc := 5) C fd_X6_169 rfl dX6_here_5 h (fun v2 h => ?_)
  refine r_icmpge (pc := 8) (tgt := 27) C dX6_here_8 (by decide) h (fun h => ?_) (fun h => ?_)
  · refine r_iconst (pc := 27) (v := (-1)) C dX6_here_27 (by decide) ?_
    exact r_iret (pc := 28) C rfl dX6_here_28 h E
  · refine r_aload_n (pc := 11) (i := 0) C dX6_here_11 rfl rfl ?_
    refine r_getP (pc := 12) C fd_X6_25 rfl dX6_here_12 h (fun p3 h => ?_)
    refine r_aload_n (pc := 15) (i := 0) C dX6_here_15 rfl rfl ?_
    refine r_getI (pc := 16) C fd_X6_166 rfl dX6_here_16 h (fun v4 h => ?_)
    refine r_bald (pc := 19) C dX6_here_19 h (fun v5 h => ?_)
    refine r_sipush (pc := 20) (v := 255) C dX6_here_20 (by decide) ?_
    refine r_iand (pc := 23) C dX6_here_23 ?_
    refine r_goto (pc := 24) (tgt := 28) C dX6_here_24 (by decide) ?_
    exact r_iret (pc := 28) C rfl dX6_here_28 h E
theorem t_X6_here {F : Nat} {σ : MM} {a0 : Nat} {r : Int32 × MM} (h : g_X6_here F σ a0 = some r) : mT σ a0 = (5, 62) := by
  unfold g_X6_here at h
  exact (r_ck h).1
theorem fd_X6_176 : xFg RX6 176 5 62 10 := ⟨_, rfl, rfl, by decide, by decide, in_X6, Or.inl q1275⟩
theorem ft_X6_10 : xFt 5 10 .int false := ⟨_, rfl, by decide +kernel, rfl, rfl⟩
def g_X6_wrongAt (F : Nat) (σ : MM) (a0 : Nat) (x1 : Int32) (x2 : Int32) : Option (Int32 × MM) := if mT σ a0 = (5, 62) then ((pI σ a0 5 62 10 ((((-1000) * x1) - x2))).bind fun σ1 => some (0, σ1)) else none
theorem w_X6_wrongAt {B F : Nat} {d : Nat} {σ : MM} {a0 : Nat} {x1 : Int32} {x2 : Int32} {rf : Int32} {σf : MM} (hd : 0 ≤ d) (h : g_X6_wrongAt F σ a0 x1 x2 = some (rf, σf)) : xMA B yX6_wrongAt cX6_wrongAt 3 (some .boolean) d 0 0 [rv B a0, .int x1, .int x2] σ (some (.int rf)) σf := by
  refine xMA.of (by decide +kernel) (Nat.le_of_ble_eq_true rfl) (cat_rv (cat_int (cat_int cat_nil))) (fun G C E => ?_)
  unfold g_X6_wrongAt at h
  obtain ⟨-, h⟩ := r_ck h
  refine r_aload_n (pc := 0) (i := 0) C dX6_wrongAt_0 rfl rfl ?_
  refine r_sipush (pc := 1) (v := (-1000)) C dX6_wrongAt_1 (by decide) ?_
  refine r_iload_n (pc := 4) (i := 1) C dX6_wrongAt_4 rfl rfl ?_
  refine r_imul (pc := 5) C dX6_wrongAt_5 ?_
  refine r_iload_n (pc := 6) (i := 2) C dX6_wrongAt_6 rfl rfl ?_
  refine r_isub (pc := 7) C dX6_wrongAt_7 ?_
  refine r_putI (pc := 8) C fd_X6_176 ft_X6_10 dX6_wrongAt_8 h (fun σ1 h => ?_)
  refine r_iconst (pc := 11) (v := 0) C dX6_wrongAt_11 (by decide) ?_
  exact r_zretL (pc := 12) C rfl dX6_wrongAt_12 (Or.inl rfl) h E
theorem t_X6_wrongAt {F : Nat} {σ : MM} {a0 : Nat} {x1 : Int32} {x2 : Int32} {r : Int32 × MM} (h : g_X6_wrongAt F σ a0 x1 x2 = some r) : mT σ a0 = (5, 62) := by
  unfold g_X6_wrongAt at h
  exact (r_ck h).1
theorem fd_X6_193 : xFg RX6 193 5 62 12 := ⟨_, rfl, rfl, by decide, by decide, in_X6, Or.inl q1277⟩
theorem ft_X6_12 : xFt 5 12 .int false := ⟨_, rfl, by decide +kernel, rfl, rfl⟩
theorem fd_X6_32 : xFg RX6 32 5 62 18 := ⟨_, rfl, rfl, by decide, by decide, in_X6, Or.inl q1283⟩
theorem ft_X6_18 : xFt 5 18 (.array .int) true := ⟨_, rfl, by decide +kernel, rfl, rfl⟩
theorem fd_X6_196 : xFg RX6 196 5 62 14 := ⟨_, rfl, rfl, by decide, by decide, in_X6, Or.inl q1279⟩
theorem ft_X6_14 : xFt 5 14 .int false := ⟨_, rfl, by decide +kernel, rfl, rfl⟩
theorem yd_X6_wrongAt : xYd yX6_wrongAt 2 := ⟨by decide +kernel, by decide +kernel, by decide +kernel⟩
theorem cs_X6_179_X6_wrongAt : xCV RX6 179 yX6_wrongAt cX6_wrongAt 3 (some .boolean) 5 62 2 := ⟨by decide, by decide, _, rfl, yd_X6_wrongAt, Or.inl ⟨rfl, lw_V q1502 q1504 qs51 q122 q1505⟩⟩
def g_X6_opens (F : Nat) (σ : MM) (a0 : Nat) (x1 : Int32) : Option (Int32 × MM) := if mT σ a0 = (5, 62) then ((gI σ a0 5 62 12).bind fun v1 => if v1 = 6 then ((gI σ a0 5 62 8).bind fun v11 => bq (g_X6_wrongAt F σ a0 5 v11) fun v13 σ12 => (rz v13).bind fun u => some (u, σ12)) else ((gI σ a0 5 62 12).bind fun v2 => (pI σ a0 5 62 12 ((v2 + 1))).bind fun σ3 => (gP σ3 a0 5 62 18).bind fun p4 => (gI σ3 a0 5 62 14).bind fun v5 => (sI σ3 p4 v5 ((1048576 * x1))).bind fun σ6 => (gI σ6 a0 5 62 14).bind fun v7 => (pI σ6 a0 5 62 14 ((v7 + 1))).bind fun σ8 => (gI σ8 a0 5 62 8).bind fun v9 => (pI σ8 a0 5 62 8 ((v9 + 1))).bind fun σ10 => some (1, σ10))) else none
theorem w_X6_opens {B F : Nat} {d : Nat} {σ : MM} {a0 : Nat} {x1 : Int32} {rf : Int32} {σf : MM} (hd : 1 ≤ d) (h : g_X6_opens F σ a0 x1 = some (rf, σf)) : xMA B yX6_opens cX6_opens 2 (some .boolean) d 0 0 [rv B a0, .int x1] σ (some (.int rf)) σf := by
  refine xMA.of (by decide +kernel) (Nat.le_of_ble_eq_true rfl) (cat_rv (cat_int cat_nil)) (fun G C E => ?_)
  unfold g_X6_opens at h
  obtain ⟨-, h⟩ := r_ck h
  refine r_aload_n (pc := 0) (i := 0) C dX6_opens_0 rfl rfl ?_
  refine r_getI (pc := 1) C fd_X6_193 rfl dX6_opens_1 h (fun v1 h => ?_)
  refine r_bipush (pc := 4) (v := 6) C dX6_opens_4 (by decide) ?_
  refine r_icmpne (pc := 6) (tgt := 19) C dX6_opens_6 (by decide) h (fun h => ?_) (fun h => ?_)
  · refine r_aload_n (pc := 19) (i := 0) C dX6_opens_19 rfl rfl ?_
    refine r_aload_n (pc := 20) (i := 0) C dX6_opens_20 rfl rfl ?_
    refine r_getI (pc := 21) C fd_X6_193 rfl dX6_opens_21 h (fun v2 h => ?_)
    refine r_iconst (pc := 24) (v := 1) C dX6_opens_24 (by decide) ?_
    refine r_iadd (pc := 25) C dX6_opens_25 ?_
    refine r_putI (pc := 26) C fd_X6_193 ft_X6_12 dX6_opens_26 h (fun σ3 h => ?_)
    refine r_aload_n (pc := 29) (i := 0) C dX6_opens_29 rfl rfl ?_
    refine r_getP (pc := 30) C fd_X6_32 rfl dX6_opens_30 h (fun p4 h => ?_)
    refine r_aload_n (pc := 33) (i := 0) C dX6_opens_33 rfl rfl ?_
    refine r_getI (pc := 34) C fd_X6_196 rfl dX6_opens_34 h (fun v5 h => ?_)
    refine r_ldc (pc := 37) C q1518 dX6_opens_37 ?_
    refine r_iload_n (pc := 39) (i := 1) C dX6_opens_39 rfl rfl ?_
    refine r_imul (pc := 40) C dX6_opens_40 ?_
    refine r_iast (pc := 41) C dX6_opens_41 h (fun σ6 h => ?_)
    refine r_aload_n (pc := 42) (i := 0) C dX6_opens_42 rfl rfl ?_
    refine r_aload_n (pc := 43) (i := 0) C dX6_opens_43 rfl rfl ?_
    refine r_getI (pc := 44) C fd_X6_196 rfl dX6_opens_44 h (fun v7 h => ?_)
    refine r_iconst (pc := 47) (v := 1) C dX6_opens_47 (by decide) ?_
    refine r_iadd (pc := 48) C dX6_opens_48 ?_
    refine r_putI (pc := 49) C fd_X6_196 ft_X6_14 dX6_opens_49 h (fun σ8 h => ?_)
    refine r_aload_n (pc := 52) (i := 0) C dX6_opens_52 rfl rfl ?_
    refine r_aload_n (pc := 53) (i := 0) C dX6_opens_53 rfl rfl ?_
    refine r_getI (pc := 54) C fd_X6_166 rfl dX6_opens_54 h (fun v9 h => ?_)
    refine r_iconst (pc := 57) (v := 1) C dX6_opens_57 (by decide) ?_
    refine r_iadd (pc := 58) C dX6_opens_58 ?_
    refine r_putI (pc := 59) C fd_X6_166 ft_X6_8 dX6_opens_59 h (fun σ10 h => ?_)
    refine r_iconst (pc := 62) (v := 1) C dX6_opens_62 (by decide) ?_
    exact r_zretL (pc := 63) C rfl dX6_opens_63 (Or.inr rfl) h E
  · refine r_aload_n (pc := 9) (i := 0) C dX6_opens_9 rfl rfl ?_
    refine r_iconst (pc := 10) (v := 5) C dX6_opens_10 (by decide) ?_
    refine r_aload_n (pc := 11) (i := 0) C dX6_opens_11 rfl rfl ?_
    refine r_getI (pc := 12) C fd_X6_166 rfl dX6_opens_12 h (fun v11 h => ?_)
    refine r_callVI (pc := 15) (As := [.int 5, .int v11]) (st := []) C cs_X6_179_X6_wrongAt h (fun _ _ e => w_X6_wrongAt (Nat.le_refl 0) e) (fun _ _ e => t_X6_wrongAt e) (Nat.le_trans (Nat.le_of_ble_eq_true rfl) hd) (Nat.le_of_ble_eq_true rfl) dX6_opens_15 (fun v13 σ12 h => ?_)
    exact r_zret (pc := 18) C rfl dX6_opens_18 h E
theorem t_X6_opens {F : Nat} {σ : MM} {a0 : Nat} {x1 : Int32} {r : Int32 × MM} (h : g_X6_opens F σ a0 x1 = some r) : mT σ a0 = (5, 62) := by
  unfold g_X6_opens at h
  exact (r_ck h).1
theorem yd_X6_here : xYd yX6_here 0 := ⟨by decide +kernel, by decide +kernel, by decide +kernel⟩
theorem cs_X6_172_X6_here : xCV RX6 172 yX6_here cX6_here 1 (some .int) 5 62 0 := ⟨by decide, by decide, _, rfl, yd_X6_here, Or.inl ⟨rfl, lw_V q1498 q1500 qs50 q122 q1501⟩⟩
def g_X6_isDigit (F : Nat) (σ : MM) (a0 : Nat) : Option (Int32 × MM) := if mT σ a0 = (5, 62) then (bq (g_X6_here F σ a0) fun v2 σ1 => if v2 < 48 then (some (0, σ1)) else (bq (g_X6_here F σ1 a0) fun v4 σ3 => if 57 < v4 then (some (0, σ3)) else (some (1, σ3)))) else none
theorem w_X6_isDigit {B F : Nat} {d : Nat} {σ : MM} {a0 : Nat} {rf : Int32} {σf : MM} (hd : 1 ≤ d) (h : g_X6_isDigit F σ a0 = some (rf, σf)) : xMA B yX6_isDigit cX6_isDigit 1 (some .boolean) d 0 0 [rv B a0] σ (some (.int rf)) σf := by
  refine xMA.of (by decide +kernel) (Nat.le_of_ble_eq_true rfl) (cat_rv cat_nil) (fun G C E => ?_)
  unfold g_X6_isDigit at h
  obtain ⟨-, h⟩ := r_ck h
  refine r_aload_n (pc := 0) (i := 0) C dX6_isDigit_0 rfl rfl ?_
  refine r_callVI (pc := 1) (As := []) (st := []) C cs_X6_172_X6_here h (fun _ _ e => w_X6_here (Nat.le_refl 0) e) (fun _ _ e => t_X6_here e) (Nat.le_trans (Nat.le_of_ble_eq_true rfl) hd) (Nat.le_of_ble_eq_true rfl) dX6_isDigit_1 (fun v2 σ1 h => ?_)
  refine r_bipush (pc := 4) (v := 48) C dX6_isDigit_4 (by decide) ?_
  refine r_icmplt (pc := 6) (tgt := 22) C dX6_isDigit_6 (by decide) h (fun h => ?_) (fun h => ?_)
  · refine r_iconst (pc := 22) (v := 0) C dX6_isDigit_22 (by decide) ?_
    exact r_zretL (pc := 23) C rfl dX6_isDigit_23 (Or.inl rfl) h E
  · refine r_aload_n (pc := 9) (i := 0) C dX6_isDigit_9 rfl rfl ?_
    refine r_callVI (pc := 10) (As := []) (st := []) C cs_X6_172_X6_here h (fun _ _ e => w_X6_here (Nat.le_refl 0) e) (fun _ _ e => t_X6_here e) (Nat.le_trans (Nat.le_of_ble_eq_true rfl) hd) (Nat.le_of_ble_eq_true rfl) dX6_isDigit_10 (fun v4 σ3 h => ?_)
    refine r_bipush (pc := 13) (v := 57) C dX6_isDigit_13 (by decide) ?_
    refine r_icmpgt (pc := 15) (tgt := 22) C dX6_isDigit_15 (by decide) h (fun h => ?_) (fun h => ?_)
    · refine r_iconst (pc := 22) (v := 0) C dX6_isDigit_22 (by decide) ?_
      exact r_zretL (pc := 23) C rfl dX6_isDigit_23 (Or.inl rfl) h E
    · refine r_iconst (pc := 18) (v := 1) C dX6_isDigit_18 (by decide) ?_
      refine r_goto (pc := 19) (tgt := 23) C dX6_isDigit_19 (by decide) ?_
      exact r_zretL (pc := 23) C rfl dX6_isDigit_23 (Or.inr rfl) h E
theorem t_X6_isDigit {F : Nat} {σ : MM} {a0 : Nat} {r : Int32 × MM} (h : g_X6_isDigit F σ a0 = some r) : mT σ a0 = (5, 62) := by
  unfold g_X6_isDigit at h
  exact (r_ck h).1
theorem fd_X6_182 : xFg RX6 182 5 62 11 := ⟨_, rfl, rfl, by decide, by decide, in_X6, Or.inl q1276⟩
theorem ft_X6_11 : xFt 5 11 .int false := ⟨_, rfl, by decide +kernel, rfl, rfl⟩
theorem yd_X6_isDigit : xYd yX6_isDigit 0 := ⟨by decide +kernel, by decide +kernel, by decide +kernel⟩
theorem cs_X6_185_X6_isDigit : xCV RX6 185 yX6_isDigit cX6_isDigit 1 (some .boolean) 5 62 0 := ⟨by decide, by decide, _, rfl, yd_X6_isDigit, Or.inl ⟨rfl, lw_V q1519 q1521 qs55 q122 q1522⟩⟩
def l_X6_readsNumber_10 (K : MM → Option (Int32 × MM)) (F : Nat) (a0 : Nat) (x1 : Int32) : Nat → MM → Option (Int32 × MM)
  | 0, _ => none
  | f + 1, σ => bq (g_X6_isDigit F σ a0) fun v4 σ3 => if v4 = 0 then (K σ3) else ((gI σ3 a0 5 62 8).bind fun v5 => if v5 = (x1 + 5) then ((gI σ3 a0 5 62 8).bind fun v12 => bq (g_X6_wrongAt F σ3 a0 2 v12) fun v14 σ13 => (rz v14).bind fun u => some (u, σ13)) else ((gI σ3 a0 5 62 11).bind fun v6 => bq (g_X6_here F σ3 a0) fun v8 σ7 => (pI σ7 a0 5 62 11 ((((10 * v6) + v8) - 48))).bind fun σ9 => (gI σ9 a0 5 62 8).bind fun v10 => (pI σ9 a0 5 62 8 ((v10 + 1))).bind fun σ11 => l_X6_readsNumber_10 K F a0 x1 f σ11))
def g_X6_readsNumber (F : Nat) (σ : MM) (a0 : Nat) : Option (Int32 × MM) := if mT σ a0 = (5, 62) then ((gI σ a0 5 62 8).bind fun v1 => (pI σ a0 5 62 11 0).bind fun σ2 => l_X6_readsNumber_10 (fun (σ15 : MM) => some (1, σ15)) F a0 v1 F σ2) else none
theorem wl_X6_readsNumber_10 {B : Nat} {G : XG} {d : Nat} {rf : Int32} {σf : MM} (hd : 2 ≤ d) (C : xC B G yX6_readsNumber cX6_readsNumber 2 (some .boolean) d 0 0) (E : xEnd B G (some (.int rf)) σf 0 0) {K : MM → Option (Int32 × MM)} {F : Nat} {a0 : Nat} {x1 : Int32} (hK : ∀ (σ : MM), K σ = some (rf, σf) → xV B G 0 0 σ 69 [] []) : ∀ (f : Nat) (σ : MM), l_X6_readsNumber_10 K F a0 x1 f σ = some (rf, σf) → xV B G 0 0 σ 10 [(0, rv B a0), (1, .int x1)] [] := by
  intro f
  induction f with
  | zero =>
    intro σ h
    have h : none = some (rf, σf) := h
    cases h
  | succ f ih =>
    intro σ h
    rw [l_X6_readsNumber_10.eq_2] at h
    refine r_aload_n (pc := 10) (i := 0) C dX6_readsNumber_10 rfl rfl ?_
    refine r_callVI (pc := 11) (As := []) (st := []) C cs_X6_185_X6_isDigit h (fun _ _ e => w_X6_isDigit (Nat.le_refl 1) e) (fun _ _ e => t_X6_isDigit e) (Nat.le_trans (Nat.le_of_ble_eq_true rfl) hd) (Nat.le_of_ble_eq_true rfl) dX6_readsNumber_11 (fun v4 σ3 h => ?_)
    refine r_ifeq (pc := 14) (tgt := 69) C dX6_readsNumber_14 (by decide) h (fun h => ?_) (fun h => ?_)
    · refine r_pick (lv' := []) [] rfl ?_
      exact hK _ h
    · refine r_aload_n (pc := 17) (i := 0) C dX6_readsNumber_17 rfl rfl ?_
      refine r_getI (pc := 18) C fd_X6_166 rfl dX6_readsNumber_18 h (fun v5 h => ?_)
      refine r_iload_n (pc := 21) (i := 1) C dX6_readsNumber_21 rfl rfl ?_
      refine r_iconst (pc := 22) (v := 5) C dX6_readsNumber_22 (by decide) ?_
      refine r_iadd (pc := 23) C dX6_readsNumber_23 ?_
      refine r_icmpne (pc := 24) (tgt := 37) C dX6_readsNumber_24 (by decide) h (fun h => ?_) (fun h => ?_)
      · refine r_aload_n (pc := 37) (i := 0) C dX6_readsNumber_37 rfl rfl ?_
        refine r_bipush (pc := 38) (v := 10) C dX6_readsNumber_38 (by decide) ?_
        refine r_aload_n (pc := 40) (i := 0) C dX6_readsNumber_40 rfl rfl ?_
        refine r_getI (pc := 41) C fd_X6_182 rfl dX6_readsNumber_41 h (fun v6 h => ?_)
        refine r_imul (pc := 44) C dX6_readsNumber_44 ?_
        refine r_aload_n (pc := 45) (i := 0) C dX6_readsNumber_45 rfl rfl ?_
        refine r_callVI (pc := 46) (As := []) (st := [.int (10 * v6), rv B a0]) C cs_X6_172_X6_here h (fun _ _ e => w_X6_here (Nat.le_refl 0) e) (fun _ _ e => t_X6_here e) (Nat.le_trans (Nat.le_of_ble_eq_true rfl) hd) (Nat.le_of_ble_eq_true rfl) dX6_readsNumber_46 (fun v8 σ7 h => ?_)
        refine r_iadd (pc := 49) C dX6_readsNumber_49 ?_
        refine r_bipush (pc := 50) (v := 48) C dX6_readsNumber_50 (by decide) ?_
        refine r_isub (pc := 52) C dX6_readsNumber_52 ?_
        refine r_putI (pc := 53) C fd_X6_182 ft_X6_11 dX6_readsNumber_53 h (fun σ9 h => ?_)
        refine r_aload_n (pc := 56) (i := 0) C dX6_readsNumber_56 rfl rfl ?_
        refine r_aload_n (pc := 57) (i := 0) C dX6_readsNumber_57 rfl rfl ?_
        refine r_getI (pc := 58) C fd_X6_166 rfl dX6_readsNumber_58 h (fun v10 h => ?_)
        refine r_iconst (pc := 61) (v := 1) C dX6_readsNumber_61 (by decide) ?_
        refine r_iadd (pc := 62) C dX6_readsNumber_62 ?_
        refine r_putI (pc := 63) C fd_X6_166 ft_X6_8 dX6_readsNumber_63 h (fun σ11 h => ?_)
        refine r_goto (pc := 66) (tgt := 10) C dX6_readsNumber_66 (by decide) ?_
        refine r_pick (lv' := [(0, rv B a0), (1, .int x1)]) [0, 1] rfl ?_
        exact ih _ h
      · refine r_aload_n (pc := 27) (i := 0) C dX6_readsNumber_27 rfl rfl ?_
        refine r_iconst (pc := 28) (v := 2) C dX6_readsNumber_28 (by decide) ?_
        refine r_aload_n (pc := 29) (i := 0) C dX6_readsNumber_29 rfl rfl ?_
        refine r_getI (pc := 30) C fd_X6_166 rfl dX6_readsNumber_30 h (fun v12 h => ?_)
        refine r_callVI (pc := 33) (As := [.int 2, .int v12]) (st := []) C cs_X6_179_X6_wrongAt h (fun _ _ e => w_X6_wrongAt (Nat.le_refl 0) e) (fun _ _ e => t_X6_wrongAt e) (Nat.le_trans (Nat.le_of_ble_eq_true rfl) hd) (Nat.le_of_ble_eq_true rfl) dX6_readsNumber_33 (fun v14 σ13 h => ?_)
        exact r_zret (pc := 36) C rfl dX6_readsNumber_36 h E
theorem w_X6_readsNumber {B F : Nat} {d : Nat} {σ : MM} {a0 : Nat} {rf : Int32} {σf : MM} (hd : 2 ≤ d) (h : g_X6_readsNumber F σ a0 = some (rf, σf)) : xMA B yX6_readsNumber cX6_readsNumber 2 (some .boolean) d 0 0 [rv B a0] σ (some (.int rf)) σf := by
  refine xMA.of (by decide +kernel) (Nat.le_of_ble_eq_true rfl) (cat_rv cat_nil) (fun G C E => ?_)
  unfold g_X6_readsNumber at h
  obtain ⟨-, h⟩ := r_ck h
  refine r_aload_n (pc := 0) (i := 0) C dX6_readsNumber_0 rfl rfl ?_
  refine r_getI (pc := 1) C fd_X6_166 rfl dX6_readsNumber_1 h (fun v1 h => ?_)
  refine r_istore_n (pc := 4) (i := 1) C dX6_readsNumber_4 rfl (by decide) ?_
  refine r_aload_n (pc := 5) (i := 0) C dX6_readsNumber_5 rfl rfl ?_
  refine r_iconst (pc := 6) (v := 0) C dX6_readsNumber_6 (by decide) ?_
  refine r_putI (pc := 7) C fd_X6_182 ft_X6_11 dX6_readsNumber_7 h (fun σ2 h => ?_)
  refine r_pick (lv' := [(0, rv B a0), (1, .int v1)]) [0, 1] rfl ?_
  refine wl_X6_readsNumber_10 hd C E (fun  σ15 h => ?_) _ _ h
  refine r_iconst (pc := 69) (v := 1) C dX6_readsNumber_69 (by decide) ?_
  exact r_zretL (pc := 70) C rfl dX6_readsNumber_70 (Or.inr rfl) h E
theorem t_X6_readsNumber {F : Nat} {σ : MM} {a0 : Nat} {r : Int32 × MM} (h : g_X6_readsNumber F σ a0 = some r) : mT σ a0 = (5, 62) := by
  unfold g_X6_readsNumber at h
  exact (r_ck h).1
theorem fd_X6_29 : xFg RX6 29 5 62 17 := ⟨_, rfl, rfl, by decide, by decide, in_X6, Or.inl q1282⟩
theorem ft_X6_17 : xFt 5 17 (.array .int) true := ⟨_, rfl, by decide +kernel, rfl, rfl⟩
theorem fd_X6_189 : xFg RX6 189 5 62 13 := ⟨_, rfl, rfl, by decide, by decide, in_X6, Or.inl q1278⟩
theorem ft_X6_13 : xFt 5 13 .int false := ⟨_, rfl, by decide +kernel, rfl, rfl⟩
def g_X6_notes (F : Nat) (σ : MM) (a0 : Nat) (x1 : Int32) (x2 : Int32) : Option (MM) := if mT σ a0 = (5, 62) then ((gP σ a0 5 62 17).bind fun p1 => (gI σ a0 5 62 13).bind fun v2 => (sI σ p1 v2 (((1048576 * x1) + x2))).bind fun σ3 => (gI σ3 a0 5 62 13).bind fun v4 => (pI σ3 a0 5 62 13 ((v4 + 1))).bind fun σ5 => some σ5) else none
theorem w_X6_notes {B F : Nat} {d : Nat} {σ : MM} {a0 : Nat} {x1 : Int32} {x2 : Int32} {σf : MM} (hd : 0 ≤ d) (h : g_X6_notes F σ a0 x1 x2 = some σf) : xMA B yX6_notes cX6_notes 3 none d 0 0 [rv B a0, .int x1, .int x2] σ none σf := by
  refine xMA.of (by decide +kernel) (Nat.le_of_ble_eq_true rfl) (cat_rv (cat_int (cat_int cat_nil))) (fun G C E => ?_)
  unfold g_X6_notes at h
  obtain ⟨-, h⟩ := r_ck h
  refine r_aload_n (pc := 0) (i := 0) C dX6_notes_0 rfl rfl ?_
  refine r_getP (pc := 1) C fd_X6_29 rfl dX6_notes_1 h (fun p1 h => ?_)
  refine r_aload_n (pc := 4) (i := 0) C dX6_notes_4 rfl rfl ?_
  refine r_getI (pc := 5) C fd_X6_189 rfl dX6_notes_5 h (fun v2 h => ?_)
  refine r_ldc (pc := 8) C q1518 dX6_notes_8 ?_
  refine r_iload_n (pc := 10) (i := 1) C dX6_notes_10 rfl rfl ?_
  refine r_imul (pc := 11) C dX6_notes_11 ?_
  refine r_iload_n (pc := 12) (i := 2) C dX6_notes_12 rfl rfl ?_
  refine r_iadd (pc := 13) C dX6_notes_13 ?_
  refine r_iast (pc := 14) C dX6_notes_14 h (fun σ3 h => ?_)
  refine r_aload_n (pc := 15) (i := 0) C dX6_notes_15 rfl rfl ?_
  refine r_aload_n (pc := 16) (i := 0) C dX6_notes_16 rfl rfl ?_
  refine r_getI (pc := 17) C fd_X6_189 rfl dX6_notes_17 h (fun v4 h => ?_)
  refine r_iconst (pc := 20) (v := 1) C dX6_notes_20 (by decide) ?_
  refine r_iadd (pc := 21) C dX6_notes_21 ?_
  refine r_putI (pc := 22) C fd_X6_189 ft_X6_13 dX6_notes_22 h (fun σ5 h => ?_)
  exact r_vret (pc := 25) C rfl dX6_notes_25 h E
theorem t_X6_notes {F : Nat} {σ : MM} {a0 : Nat} {x1 : Int32} {x2 : Int32} {r : MM} (h : g_X6_notes F σ a0 x1 x2 = some r) : mT σ a0 = (5, 62) := by
  unfold g_X6_notes at h
  exact (r_ck h).1
def g_X6_factOf (F : Nat) (σ : MM) (x0 : Int32) : Option (Int32 × MM) := if x0 = 99 then (some (1, σ)) else if x0 = 103 then (some (5, σ)) else if x0 = 104 then (some (0, σ)) else if x0 = 110 then (some (2, σ)) else if x0 = 111 then (some (3, σ)) else if x0 = 116 then (some (6, σ)) else if x0 = 119 then (some (4, σ)) else if x0 = 121 then (some (7, σ)) else (some ((-1), σ))
theorem w_X6_factOf {B F : Nat} {d : Nat} {σ : MM} {x0 : Int32} {rf : Int32} {σf : MM} (hd : 0 ≤ d) (h : g_X6_factOf F σ x0 = some (rf, σf)) : xMA B yX6_factOf cX6_factOf 1 (some .int) d 0 0 [.int x0] σ (some (.int rf)) σf := by
  refine xMA.of (by decide +kernel) (Nat.le_of_ble_eq_true rfl) (cat_int cat_nil) (fun G C E => ?_)
  unfold g_X6_factOf at h
  refine r_iload_n (pc := 0) (i := 0) C dX6_factOf_0 rfl rfl ?_
  by_cases c0_1 : x0 = 99
  · rw [if_pos c0_1] at h
    refine r_tswE (pc := 1) (tgt := 110) C dX6_factOf_1 c0_1 (by decide) (by decide) rfl (by decide) ?_
    refine r_iconst (pc := 110) (v := 1) C dX6_factOf_110 (by decide) ?_
    exact r_iret (pc := 111) C rfl dX6_factOf_111 h E
  rw [if_neg c0_1] at h
  by_cases c1_1 : x0 = 103
  · rw [if_pos c1_1] at h
    refine r_tswE (pc := 1) (tgt := 118) C dX6_factOf_1 c1_1 (by decide) (by decide) rfl (by decide) ?_
    refine r_iconst (pc := 118) (v := 5) C dX6_factOf_118 (by decide) ?_
    exact r_iret (pc := 119) C rfl dX6_factOf_119 h E
  rw [if_neg c1_1] at h
  by_cases c2_1 : x0 = 104
  · rw [if_pos c2_1] at h
    refine r_tswE (pc := 1) (tgt := 108) C dX6_factOf_1 c2_1 (by decide) (by decide) rfl (by decide) ?_
    refine r_iconst (pc := 108) (v := 0) C dX6_factOf_108 (by decide) ?_
    exact r_iret (pc := 109) C rfl dX6_factOf_109 h E
  rw [if_neg c2_1] at h
  by_cases c3_1 : x0 = 110
  · rw [if_pos c3_1] at h
    refine r_tswE (pc := 1) (tgt := 112) C dX6_factOf_1 c3_1 (by decide) (by decide) rfl (by decide) ?_
    refine r_iconst (pc := 112) (v := 2) C dX6_factOf_112 (by decide) ?_
    exact r_iret (pc := 113) C rfl dX6_factOf_113 h E
  rw [if_neg c3_1] at h
  by_cases c4_1 : x0 = 111
  · rw [if_pos c4_1] at h
    refine r_tswE (pc := 1) (tgt := 114) C dX6_factOf_1 c4_1 (by decide) (by decide) rfl (by decide) ?_
    refine r_iconst (pc := 114) (v := 3) C dX6_factOf_114 (by decide) ?_
    exact r_iret (pc := 115) C rfl dX6_factOf_115 h E
  rw [if_neg c4_1] at h
  by_cases c5_1 : x0 = 116
  · rw [if_pos c5_1] at h
    refine r_tswE (pc := 1) (tgt := 120) C dX6_factOf_1 c5_1 (by decide) (by decide) rfl (by decide) ?_
    refine r_bipush (pc := 120) (v := 6) C dX6_factOf_120 (by decide) ?_
    exact r_iret (pc := 122) C rfl dX6_factOf_122 h E
  rw [if_neg c5_1] at h
  by_cases c6_1 : x0 = 119
  · rw [if_pos c6_1] at h
    refine r_tswE (pc := 1) (tgt := 116) C dX6_factOf_1 c6_1 (by decide) (by decide) rfl (by decide) ?_
    refine r_iconst (pc := 116) (v := 4) C dX6_factOf_116 (by decide) ?_
    exact r_iret (pc := 117) C rfl dX6_factOf_117 h E
  rw [if_neg c6_1] at h
  by_cases c7_1 : x0 = 121
  · rw [if_pos c7_1] at h
    refine r_tswE (pc := 1) (tgt := 123) C dX6_factOf_1 c7_1 (by decide) (by decide) rfl (by decide) ?_
    refine r_bipush (pc := 123) (v := 7) C dX6_factOf_123 (by decide) ?_
    exact r_iret (pc := 125) C rfl dX6_factOf_125 h E
  rw [if_neg c7_1] at h
  refine r_dfl (st := []) (tgt := 126) (pc := 1) ?_ (fun hD => ?_)
  · refine r_iconst (pc := 126) (v := (-1)) C dX6_factOf_126 (by decide) ?_
    exact r_iret (pc := 127) C rfl dX6_factOf_127 h E
  by_cases e1_1 : x0 = 100
  · exact r_tswE (pc := 1) (tgt := 126) C dX6_factOf_1 e1_1 (by decide) (by decide) rfl (by decide) hD
  by_cases e2_1 : x0 = 101
  · exact r_tswE (pc := 1) (tgt := 126) C dX6_factOf_1 e2_1 (by decide) (by decide) rfl (by decide) hD
  by_cases e3_1 : x0 = 102
  · exact r_tswE (pc := 1) (tgt := 126) C dX6_factOf_1 e3_1 (by decide) (by decide) rfl (by decide) hD
  by_cases e6_1 : x0 = 105
  · exact r_tswE (pc := 1) (tgt := 126) C dX6_factOf_1 e6_1 (by decide) (by decide) rfl (by decide) hD
  by_cases e7_1 : x0 = 106
  · exact r_tswE (pc := 1) (tgt := 126) C dX6_factOf_1 e7_1 (by decide) (by decide) rfl (by decide) hD
  by_cases e8_1 : x0 = 107
  · exact r_tswE (pc := 1) (tgt := 126) C dX6_factOf_1 e8_1 (by decide) (by decide) rfl (by decide) hD
  by_cases e9_1 : x0 = 108
  · exact r_tswE (pc := 1) (tgt := 126) C dX6_factOf_1 e9_1 (by decide) (by decide) rfl (by decide) hD
  by_cases e10_1 : x0 = 109
  · exact r_tswE (pc := 1) (tgt := 126) C dX6_factOf_1 e10_1 (by decide) (by decide) rfl (by decide) hD
  by_cases e13_1 : x0 = 112
  · exact r_tswE (pc := 1) (tgt := 126) C dX6_factOf_1 e13_1 (by decide) (by decide) rfl (by decide) hD
  by_cases e14_1 : x0 = 113
  · exact r_tswE (pc := 1) (tgt := 126) C dX6_factOf_1 e14_1 (by decide) (by decide) rfl (by decide) hD
  by_cases e15_1 : x0 = 114
  · exact r_tswE (pc := 1) (tgt := 126) C dX6_factOf_1 e15_1 (by decide) (by decide) rfl (by decide) hD
  by_cases e16_1 : x0 = 115
  · exact r_tswE (pc := 1) (tgt := 126) C dX6_factOf_1 e16_1 (by decide) (by decide) rfl (by decide) hD
  by_cases e18_1 : x0 = 117
  · exact r_tswE (pc := 1) (tgt := 126) C dX6_factOf_1 e18_1 (by decide) (by decide) rfl (by decide) hD
  by_cases e19_1 : x0 = 118
  · exact r_tswE (pc := 1) (tgt := 126) C dX6_factOf_1 e19_1 (by decide) (by decide) rfl (by decide) hD
  by_cases e21_1 : x0 = 120
  · exact r_tswE (pc := 1) (tgt := 126) C dX6_factOf_1 e21_1 (by decide) (by decide) rfl (by decide) hD
  have n0_1 := tsw_ne (i := 99) c0_1 (by decide)
  have n1_1 := tsw_ne (i := 103) c1_1 (by decide)
  have n2_1 := tsw_ne (i := 104) c2_1 (by decide)
  have n3_1 := tsw_ne (i := 110) c3_1 (by decide)
  have n4_1 := tsw_ne (i := 111) c4_1 (by decide)
  have n5_1 := tsw_ne (i := 116) c5_1 (by decide)
  have n6_1 := tsw_ne (i := 119) c6_1 (by decide)
  have n7_1 := tsw_ne (i := 121) c7_1 (by decide)
  have m1_1 := tsw_ne (i := 100) e1_1 (by decide)
  have m2_1 := tsw_ne (i := 101) e2_1 (by decide)
  have m3_1 := tsw_ne (i := 102) e3_1 (by decide)
  have m6_1 := tsw_ne (i := 105) e6_1 (by decide)
  have m7_1 := tsw_ne (i := 106) e7_1 (by decide)
  have m8_1 := tsw_ne (i := 107) e8_1 (by decide)
  have m9_1 := tsw_ne (i := 108) e9_1 (by decide)
  have m10_1 := tsw_ne (i := 109) e10_1 (by decide)
  have m13_1 := tsw_ne (i := 112) e13_1 (by decide)
  have m14_1 := tsw_ne (i := 113) e14_1 (by decide)
  have m15_1 := tsw_ne (i := 114) e15_1 (by decide)
  have m16_1 := tsw_ne (i := 115) e16_1 (by decide)
  have m18_1 := tsw_ne (i := 117) e18_1 (by decide)
  have m19_1 := tsw_ne (i := 118) e19_1 (by decide)
  have m21_1 := tsw_ne (i := 120) e21_1 (by decide)
  exact r_tswO (pc := 1) (tgt := 126) C dX6_factOf_1 (by omega) (by decide) hD
theorem yd_X6_factOf : xYd yX6_factOf 1 := ⟨by decide +kernel, by decide +kernel, by decide +kernel⟩
theorem cs_X6_212_X6_factOf : xCS RX6 212 yX6_factOf cX6_factOf 1 (some .int) 1 := ⟨by decide, yd_X6_factOf, Or.inl (lw_S q1531 q1532 q122 q1533)⟩
theorem yd_X6_notes : xYd yX6_notes 2 := ⟨by decide +kernel, by decide +kernel, by decide +kernel⟩
theorem cs_X6_202_X6_notes : xCV RX6 202 yX6_notes cX6_notes 3 none 5 62 2 := ⟨by decide, by decide, _, rfl, yd_X6_notes, Or.inl ⟨rfl, lw_V q1527 q1529 qs57 q122 q1530⟩⟩
theorem yd_X6_readsNumber : xYd yX6_readsNumber 0 := ⟨by decide +kernel, by decide +kernel, by decide +kernel⟩
theorem cs_X6_209_X6_readsNumber : xCV RX6 209 yX6_readsNumber cX6_readsNumber 2 (some .boolean) 5 62 0 := ⟨by decide, by decide, _, rfl, yd_X6_readsNumber, Or.inl ⟨rfl, lw_V q1523 q1525 qs56 q122 q1526⟩⟩
theorem yd_X6_opens : xYd yX6_opens 1 := ⟨by decide +kernel, by decide +kernel, by decide +kernel⟩
theorem cs_X6_206_X6_opens : xCV RX6 206 yX6_opens cX6_opens 2 (some .boolean) 5 62 1 := ⟨by decide, by decide, _, rfl, yd_X6_opens, Or.inl ⟨rfl, lw_V q1514 q1516 qs54 q122 q1517⟩⟩
def l_X6_readsFactor_0 (K : MM → Option (Int32 × MM)) (F : Nat) (a0 : Nat) : Nat → MM → Option (Int32 × MM)
  | 0, _ => none
  | f + 1, σ => bq (g_X6_here F σ a0) fun v2 σ1 => if v2 = 91 then (bq (g_X6_opens F σ1 a0 14) fun v20 σ19 => if v20 = 0 then (K σ19) else (l_X6_readsFactor_0 K F a0 f σ19)) else (bq (g_X6_isDigit F σ1 a0) fun v4 σ3 => if v4 = 0 then (bq (g_X6_here F σ3 a0) fun v6 σ5 => bq (g_X6_factOf F σ5 v6) fun v8 σ7 => if v8 = (-1) then ((gI σ7 a0 5 62 8).bind fun v12 => bq (g_X6_wrongAt F σ7 a0 1 v12) fun v14 σ13 => (rz v14).bind fun u => some (u, σ13)) else ((g_X6_notes F σ7 a0 1 v8).bind fun σ9 => (gI σ9 a0 5 62 8).bind fun v10 => (pI σ9 a0 5 62 8 ((v10 + 1))).bind fun σ11 => some (1, σ11))) else (bq (g_X6_readsNumber F σ3 a0) fun v16 σ15 => if v16 = 0 then (some (0, σ15)) else ((gI σ15 a0 5 62 11).bind fun v17 => (g_X6_notes F σ15 a0 0 v17).bind fun σ18 => some (1, σ18))))
def g_X6_readsFactor (F : Nat) (σ : MM) (a0 : Nat) : Option (Int32 × MM) := if mT σ a0 = (5, 62) then (l_X6_readsFactor_0 (fun (σ21 : MM) => some (0, σ21)) F a0 F σ) else none
theorem wl_X6_readsFactor_0 {B : Nat} {G : XG} {d : Nat} {rf : Int32} {σf : MM} (hd : 3 ≤ d) (C : xC B G yX6_readsFactor cX6_readsFactor 2 (some .boolean) d 0 0) (E : xEnd B G (some (.int rf)) σf 0 0) {K : MM → Option (Int32 × MM)} {F : Nat} {a0 : Nat} (hK : ∀ (σ : MM), K σ = some (rf, σf) → xV B G 0 0 σ 18 [] []) : ∀ (f : Nat) (σ : MM), l_X6_readsFactor_0 K F a0 f σ = some (rf, σf) → xV B G 0 0 σ 0 [(0, rv B a0)] [] := by
  intro f
  induction f with
  | zero =>
    intro σ h
    have h : none = some (rf, σf) := h
    cases h
  | succ f ih =>
    intro σ h
    rw [l_X6_readsFactor_0.eq_2] at h
    refine r_aload_n (pc := 0) (i := 0) C dX6_readsFactor_0 rfl rfl ?_
    refine r_callVI (pc := 1) (As := []) (st := []) C cs_X6_172_X6_here h (fun _ _ e => w_X6_here (Nat.le_refl 0) e) (fun _ _ e => t_X6_here e) (Nat.le_trans (Nat.le_of_ble_eq_true rfl) hd) (Nat.le_of_ble_eq_true rfl) dX6_readsFactor_1 (fun v2 σ1 h => ?_)
    refine r_bipush (pc := 4) (v := 91) C dX6_readsFactor_4 (by decide) ?_
    refine r_icmpne (pc := 6) (tgt := 20) C dX6_readsFactor_6 (by decide) h (fun h => ?_) (fun h => ?_)
    · refine r_aload_n (pc := 20) (i := 0) C dX6_readsFactor_20 rfl rfl ?_
      refine r_callVI (pc := 21) (As := []) (st := []) C cs_X6_185_X6_isDigit h (fun _ _ e => w_X6_isDigit (Nat.le_refl 1) e) (fun _ _ e => t_X6_isDigit e) (Nat.le_trans (Nat.le_of_ble_eq_true rfl) hd) (Nat.le_of_ble_eq_true rfl) dX6_readsFactor_21 (fun v4 σ3 h => ?_)
      refine r_ifeq (pc := 24) (tgt := 47) C dX6_readsFactor_24 (by decide) h (fun h => ?_) (fun h => ?_)
      · refine r_aload_n (pc := 47) (i := 0) C dX6_readsFactor_47 rfl rfl ?_
        refine r_callVI (pc := 48) (As := []) (st := []) C cs_X6_172_X6_here h (fun _ _ e => w_X6_here (Nat.le_refl 0) e) (fun _ _ e => t_X6_here e) (Nat.le_trans (Nat.le_of_ble_eq_true rfl) hd) (Nat.le_of_ble_eq_true rfl) dX6_readsFactor_48 (fun v6 σ5 h => ?_)
        refine r_callSI (pc := 51) (As := [.int v6]) (st := []) C cs_X6_212_X6_factOf h (fun _ _ e => w_X6_factOf (Nat.le_refl 0) e) (Nat.le_trans (Nat.le_of_ble_eq_true rfl) hd) (Nat.le_of_ble_eq_true rfl) dX6_readsFactor_51 (fun v8 σ7 h => ?_)
        refine r_istore_n (pc := 54) (i := 1) C dX6_readsFactor_54 rfl (by decide) ?_
        refine r_iload_n (pc := 55) (i := 1) C dX6_readsFactor_55 rfl rfl ?_
        refine r_iconst (pc := 56) (v := (-1)) C dX6_readsFactor_56 (by decide) ?_
        refine r_icmpne (pc := 57) (tgt := 70) C dX6_readsFactor_57 (by decide) h (fun h => ?_) (fun h => ?_)
        · refine r_aload_n (pc := 70) (i := 0) C dX6_readsFactor_70 rfl rfl ?_
          refine r_iconst (pc := 71) (v := 1) C dX6_readsFactor_71 (by decide) ?_
          refine r_iload_n (pc := 72) (i := 1) C dX6_readsFactor_72 rfl rfl ?_
          refine r_callVV (pc := 73) (As := [.int 1, .int v8]) (st := []) C cs_X6_202_X6_notes h (fun _ e => w_X6_notes (Nat.le_refl 0) e) (fun _ e => t_X6_notes e) (Nat.le_trans (Nat.le_of_ble_eq_true rfl) hd) (Nat.le_of_ble_eq_true rfl) dX6_readsFactor_73 (fun σ9 h => ?_)
          refine r_aload_n (pc := 76) (i := 0) C dX6_readsFactor_76 rfl rfl ?_
          refine r_aload_n (pc := 77) (i := 0) C dX6_readsFactor_77 rfl rfl ?_
          refine r_getI (pc := 78) C fd_X6_166 rfl dX6_readsFactor_78 h (fun v10 h => ?_)
          refine r_iconst (pc := 81) (v := 1) C dX6_readsFactor_81 (by decide) ?_
          refine r_iadd (pc := 82) C dX6_readsFactor_82 ?_
          refine r_putI (pc := 83) C fd_X6_166 ft_X6_8 dX6_readsFactor_83 h (fun σ11 h => ?_)
          refine r_iconst (pc := 86) (v := 1) C dX6_readsFactor_86 (by decide) ?_
          exact r_zretL (pc := 87) C rfl dX6_readsFactor_87 (Or.inr rfl) h E
        · refine r_aload_n (pc := 60) (i := 0) C dX6_readsFactor_60 rfl rfl ?_
          refine r_iconst (pc := 61) (v := 1) C dX6_readsFactor_61 (by decide) ?_
          refine r_aload_n (pc := 62) (i := 0) C dX6_readsFactor_62 rfl rfl ?_
          refine r_getI (pc := 63) C fd_X6_166 rfl dX6_readsFactor_63 h (fun v12 h => ?_)
          refine r_callVI (pc := 66) (As := [.int 1, .int v12]) (st := []) C cs_X6_179_X6_wrongAt h (fun _ _ e => w_X6_wrongAt (Nat.le_refl 0) e) (fun _ _ e => t_X6_wrongAt e) (Nat.le_trans (Nat.le_of_ble_eq_true rfl) hd) (Nat.le_of_ble_eq_true rfl) dX6_readsFactor_66 (fun v14 σ13 h => ?_)
          exact r_zret (pc := 69) C rfl dX6_readsFactor_69 h E
      · refine r_aload_n (pc := 27) (i := 0) C dX6_readsFactor_27 rfl rfl ?_
        refine r_callVI (pc := 28) (As := []) (st := []) C cs_X6_209_X6_readsNumber h (fun _ _ e => w_X6_readsNumber (Nat.le_refl 2) e) (fun _ _ e => t_X6_readsNumber e) (Nat.le_trans (Nat.le_of_ble_eq_true rfl) hd) (Nat.le_of_ble_eq_true rfl) dX6_readsFactor_28 (fun v16 σ15 h => ?_)
        refine r_ifne (pc := 31) (tgt := 36) C dX6_readsFactor_31 (by decide) h (fun h => ?_) (fun h => ?_)
        · refine r_aload_n (pc := 36) (i := 0) C dX6_readsFactor_36 rfl rfl ?_
          refine r_iconst (pc := 37) (v := 0) C dX6_readsFactor_37 (by decide) ?_
          refine r_aload_n (pc := 38) (i := 0) C dX6_readsFactor_38 rfl rfl ?_
          refine r_getI (pc := 39) C fd_X6_182 rfl dX6_readsFactor_39 h (fun v17 h => ?_)
          refine r_callVV (pc := 42) (As := [.int 0, .int v17]) (st := []) C cs_X6_202_X6_notes h (fun _ e => w_X6_notes (Nat.le_refl 0) e) (fun _ e => t_X6_notes e) (Nat.le_trans (Nat.le_of_ble_eq_true rfl) hd) (Nat.le_of_ble_eq_true rfl) dX6_readsFactor_42 (fun σ18 h => ?_)
          refine r_iconst (pc := 45) (v := 1) C dX6_readsFactor_45 (by decide) ?_
          exact r_zretL (pc := 46) C rfl dX6_readsFactor_46 (Or.inr rfl) h E
        · refine r_iconst (pc := 34) (v := 0) C dX6_readsFactor_34 (by decide) ?_
          exact r_zretL (pc := 35) C rfl dX6_readsFactor_35 (Or.inl rfl) h E
    · refine r_aload_n (pc := 9) (i := 0) C dX6_readsFactor_9 rfl rfl ?_
      refine r_bipush (pc := 10) (v := 14) C dX6_readsFactor_10 (by decide) ?_
      refine r_callVI (pc := 12) (As := [.int 14]) (st := []) C cs_X6_206_X6_opens h (fun _ _ e => w_X6_opens (Nat.le_refl 1) e) (fun _ _ e => t_X6_opens e) (Nat.le_trans (Nat.le_of_ble_eq_true rfl) hd) (Nat.le_of_ble_eq_true rfl) dX6_readsFactor_12 (fun v20 σ19 h => ?_)
      refine r_ifne (pc := 15) (tgt := 0) C dX6_readsFactor_15 (by decide) h (fun h => ?_) (fun h => ?_)
      · refine r_pick (lv' := [(0, rv B a0)]) [0] rfl ?_
        exact ih _ h
      · refine r_pick (lv' := []) [] rfl ?_
        exact hK _ h
theorem w_X6_readsFactor {B F : Nat} {d : Nat} {σ : MM} {a0 : Nat} {rf : Int32} {σf : MM} (hd : 3 ≤ d) (h : g_X6_readsFactor F σ a0 = some (rf, σf)) : xMA B yX6_readsFactor cX6_readsFactor 2 (some .boolean) d 0 0 [rv B a0] σ (some (.int rf)) σf := by
  refine xMA.of (by decide +kernel) (Nat.le_of_ble_eq_true rfl) (cat_rv cat_nil) (fun G C E => ?_)
  unfold g_X6_readsFactor at h
  obtain ⟨-, h⟩ := r_ck h
  refine r_pick (lv' := [(0, rv B a0)]) [0] rfl ?_
  refine wl_X6_readsFactor_0 hd C E (fun  σ21 h => ?_) _ _ h
  refine r_iconst (pc := 18) (v := 0) C dX6_readsFactor_18 (by decide) ?_
  exact r_zretL (pc := 19) C rfl dX6_readsFactor_19 (Or.inl rfl) h E
theorem t_X6_readsFactor {F : Nat} {σ : MM} {a0 : Nat} {r : Int32 × MM} (h : g_X6_readsFactor F σ a0 = some r) : mT σ a0 = (5, 62) := by
  unfold g_X6_readsFactor at h
  exact (r_ck h).1
def g_X6_sumSign (F : Nat) (σ : MM) (x0 : Int32) : Option (Int32 × MM) := if x0 = 43 then (some (2, σ)) else (if x0 = 45 then (some (3, σ)) else (if x0 = 42 then (some (4, σ)) else (if x0 = 47 then (some (5, σ)) else (if x0 = 37 then (some (6, σ)) else (some ((-1), σ))))))
theorem w_X6_sumSign {B F : Nat} {d : Nat} {σ : MM} {x0 : Int32} {rf : Int32} {σf : MM} (hd : 0 ≤ d) (h : g_X6_sumSign F σ x0 = some (rf, σf)) : xMA B yX6_sumSign cX6_sumSign 1 (some .int) d 0 0 [.int x0] σ (some (.int rf)) σf := by
  refine xMA.of (by decide +kernel) (Nat.le_of_ble_eq_true rfl) (cat_int cat_nil) (fun G C E => ?_)
  unfold g_X6_sumSign at h
  refine r_iload_n (pc := 0) (i := 0) C dX6_sumSign_0 rfl rfl ?_
  refine r_bipush (pc := 1) (v := 43) C dX6_sumSign_1 (by decide) ?_
  refine r_icmpne (pc := 3) (tgt := 10) C dX6_sumSign_3 (by decide) h (fun h => ?_) (fun h => ?_)
  · refine r_iload_n (pc := 10) (i := 0) C dX6_sumSign_10 rfl rfl ?_
    refine r_bipush (pc := 11) (v := 45) C dX6_sumSign_11 (by decide) ?_
    refine r_icmpne (pc := 13) (tgt := 20) C dX6_sumSign_13 (by decide) h (fun h => ?_) (fun h => ?_)
    · refine r_iload_n (pc := 20) (i := 0) C dX6_sumSign_20 rfl rfl ?_
      refine r_bipush (pc := 21) (v := 42) C dX6_sumSign_21 (by decide) ?_
      refine r_icmpne (pc := 23) (tgt := 30) C dX6_sumSign_23 (by decide) h (fun h => ?_) (fun h => ?_)
      · refine r_iload_n (pc := 30) (i := 0) C dX6_sumSign_30 rfl rfl ?_
        refine r_bipush (pc := 31) (v := 47) C dX6_sumSign_31 (by decide) ?_
        refine r_icmpne (pc := 33) (tgt := 40) C dX6_sumSign_33 (by decide) h (fun h => ?_) (fun h => ?_)
        · refine r_iload_n (pc := 40) (i := 0) C dX6_sumSign_40 rfl rfl ?_
          refine r_bipush (pc := 41) (v := 37) C dX6_sumSign_41 (by decide) ?_
          refine r_icmpne (pc := 43) (tgt := 51) C dX6_sumSign_43 (by decide) h (fun h => ?_) (fun h => ?_)
          · refine r_iconst (pc := 51) (v := (-1)) C dX6_sumSign_51 (by decide) ?_
            exact r_iret (pc := 52) C rfl dX6_sumSign_52 h E
          · refine r_bipush (pc := 46) (v := 6) C dX6_sumSign_46 (by decide) ?_
            refine r_goto (pc := 48) (tgt := 52) C dX6_sumSign_48 (by decide) ?_
            exact r_iret (pc := 52) C rfl dX6_sumSign_52 h E
        · refine r_iconst (pc := 36) (v := 5) C dX6_sumSign_36 (by decide) ?_
          refine r_goto (pc := 37) (tgt := 52) C dX6_sumSign_37 (by decide) ?_
          exact r_iret (pc := 52) C rfl dX6_sumSign_52 h E
      · refine r_iconst (pc := 26) (v := 4) C dX6_sumSign_26 (by decide) ?_
        refine r_goto (pc := 27) (tgt := 52) C dX6_sumSign_27 (by decide) ?_
        exact r_iret (pc := 52) C rfl dX6_sumSign_52 h E
    · refine r_iconst (pc := 16) (v := 3) C dX6_sumSign_16 (by decide) ?_
      refine r_goto (pc := 17) (tgt := 52) C dX6_sumSign_17 (by decide) ?_
      exact r_iret (pc := 52) C rfl dX6_sumSign_52 h E
  · refine r_iconst (pc := 6) (v := 2) C dX6_sumSign_6 (by decide) ?_
    refine r_goto (pc := 7) (tgt := 52) C dX6_sumSign_7 (by decide) ?_
    exact r_iret (pc := 52) C rfl dX6_sumSign_52 h E
def g_X6_waitTop (F : Nat) (σ : MM) (a0 : Nat) : Option (Int32 × MM) := if mT σ a0 = (5, 62) then ((gI σ a0 5 62 14).bind fun v1 => if v1 = 0 then (some ((-1), σ)) else ((gP σ a0 5 62 18).bind fun p2 => (gI σ a0 5 62 14).bind fun v3 => (aI σ p2 20 ((v3 - 1))).bind fun v4 => (dv v4 1048576).bind fun v5 => some (v5, σ))) else none
theorem w_X6_waitTop {B F : Nat} {d : Nat} {σ : MM} {a0 : Nat} {rf : Int32} {σf : MM} (hd : 0 ≤ d) (h : g_X6_waitTop F σ a0 = some (rf, σf)) : xMA B yX6_waitTop cX6_waitTop 1 (some .int) d 0 0 [rv B a0] σ (some (.int rf)) σf := by
  refine xMA.of (by decide +kernel) (Nat.le_of_ble_eq_true rfl) (cat_rv cat_nil) (fun G C E => ?_)
  unfold g_X6_waitTop at h
  obtain ⟨-, h⟩ := r_ck h
  refine r_aload_n (pc := 0) (i := 0) C dX6_waitTop_0 rfl rfl ?_
  refine r_getI (pc := 1) C fd_X6_196 rfl dX6_waitTop_1 h (fun v1 h => ?_)
  refine r_ifne (pc := 4) (tgt := 11) C dX6_waitTop_4 (by decide) h (fun h => ?_) (fun h => ?_)
  · refine r_aload_n (pc := 11) (i := 0) C dX6_waitTop_11 rfl rfl ?_
    refine r_getP (pc := 12) C fd_X6_32 rfl dX6_waitTop_12 h (fun p2 h => ?_)
    refine r_aload_n (pc := 15) (i := 0) C dX6_waitTop_15 rfl rfl ?_
    refine r_getI (pc := 16) C fd_X6_196 rfl dX6_waitTop_16 h (fun v3 h => ?_)
    refine r_iconst (pc := 19) (v := 1) C dX6_waitTop_19 (by decide) ?_
    refine r_isub (pc := 20) C dX6_waitTop_20 ?_
    refine r_iald (pc := 21) C dX6_waitTop_21 h (fun v4 h => ?_)
    refine r_ldc (pc := 22) C q1518 dX6_waitTop_22 ?_
    refine r_idiv (pc := 24) C dX6_waitTop_24 h (fun v5 h => ?_)
    exact r_iret (pc := 25) C rfl dX6_waitTop_25 h E
  · refine r_iconst (pc := 7) (v := (-1)) C dX6_waitTop_7 (by decide) ?_
    refine r_goto (pc := 8) (tgt := 25) C dX6_waitTop_8 (by decide) ?_
    exact r_iret (pc := 25) C rfl dX6_waitTop_25 h E
theorem t_X6_waitTop {F : Nat} {σ : MM} {a0 : Nat} {r : Int32 × MM} (h : g_X6_waitTop F σ a0 = some r) : mT σ a0 = (5, 62) := by
  unfold g_X6_waitTop at h
  exact (r_ck h).1
theorem yd_X6_waitTop : xYd yX6_waitTop 0 := ⟨by decide +kernel, by decide +kernel, by decide +kernel⟩
theorem cs_X6_199_X6_waitTop : xCV RX6 199 yX6_waitTop cX6_waitTop 1 (some .int) 5 62 0 := ⟨by decide, by decide, _, rfl, yd_X6_waitTop, Or.inl ⟨rfl, lw_V q1541 q1543 qs59 q122 q1544⟩⟩
def l_X6_closesSums_0 (K : MM → Option (MM)) (F : Nat) (a0 : Nat) (x1 : Int32) : Nat → MM → Option (MM)
  | 0, _ => none
  | f + 1, σ => bq (g_X6_waitTop F σ a0) fun v2 σ1 => jn (fun  (σ3 : MM) => bq (g_X6_waitTop F σ3 a0) fun v6 σ5 => (g_X6_notes F σ5 a0 v6 0).bind fun σ7 => (gI σ7 a0 5 62 14).bind fun v8 => (pI σ7 a0 5 62 14 ((v8 - 1))).bind fun σ9 => l_X6_closesSums_0 K F a0 x1 f σ9) (fun k4 => jn (fun  (σ10 : MM) => if x1 = 0 then (K σ10) else (bq (g_X6_waitTop F σ10 a0) fun v13 σ12 => if v13 = 2 then (k4 σ12) else (bq (g_X6_waitTop F σ12 a0) fun v15 σ14 => if v15 = 3 then (k4 σ14) else (K σ14)))) (fun k11 => if v2 < 4 then (k11 σ1) else (bq (g_X6_waitTop F σ1 a0) fun v17 σ16 => if 6 < v17 then (k11 σ16) else (k4 σ16))))
def g_X6_closesSums (F : Nat) (σ : MM) (a0 : Nat) (x1 : Int32) : Option (MM) := if mT σ a0 = (5, 62) then (l_X6_closesSums_0 (fun (σ18 : MM) => some σ18) F a0 x1 F σ) else none
theorem wl_X6_closesSums_0 {B : Nat} {G : XG} {d : Nat} {σf : MM} (hd : 1 ≤ d) (C : xC B G yX6_closesSums cX6_closesSums 2 none d 0 0) (E : xEnd B G none σf 0 0) {K : MM → Option (MM)} {F : Nat} {a0 : Nat} {x1 : Int32} (hK : ∀ (σ : MM), K σ = some σf → xV B G 0 0 σ 59 [] []) : ∀ (f : Nat) (σ : MM), l_X6_closesSums_0 K F a0 x1 f σ = some σf → xV B G 0 0 σ 0 [(0, rv B a0), (1, .int x1)] [] := by
  intro f
  induction f with
  | zero =>
    intro σ h
    have h : none = some σf := h
    cases h
  | succ f ih =>
    intro σ h
    rw [l_X6_closesSums_0.eq_2] at h
    refine r_aload_n (pc := 0) (i := 0) C dX6_closesSums_0 rfl rfl ?_
    refine r_callVI (pc := 1) (As := []) (st := []) C cs_X6_199_X6_waitTop h (fun _ _ e => w_X6_waitTop (Nat.le_refl 0) e) (fun _ _ e => t_X6_waitTop e) (Nat.le_trans (Nat.le_of_ble_eq_true rfl) hd) (Nat.le_of_ble_eq_true rfl) dX6_closesSums_1 (fun v2 σ1 h => ?_)
    refine r_iconst (pc := 4) (v := 4) C dX6_closesSums_4 (by decide) ?_
    refine r_jn (fun k9 => ∀  (σ3 : MM), k9 σ3 = some σf → xV B G 0 0 σ3 37 [(0, rv B a0), (1, .int x1)] []) h (fun  σ3 h => ?_) (fun k4 hk4 h => ?_)
    · refine r_aload_n (pc := 37) (i := 0) C dX6_closesSums_37 rfl rfl ?_
      refine r_aload_n (pc := 38) (i := 0) C dX6_closesSums_38 rfl rfl ?_
      refine r_callVI (pc := 39) (As := []) (st := [rv B a0]) C cs_X6_199_X6_waitTop h (fun _ _ e => w_X6_waitTop (Nat.le_refl 0) e) (fun _ _ e => t_X6_waitTop e) (Nat.le_trans (Nat.le_of_ble_eq_true rfl) hd) (Nat.le_of_ble_eq_true rfl) dX6_closesSums_39 (fun v6 σ5 h => ?_)
      refine r_iconst (pc := 42) (v := 0) C dX6_closesSums_42 (by decide) ?_
      refine r_callVV (pc := 43) (As := [.int v6, .int 0]) (st := []) C cs_X6_202_X6_notes h (fun _ e => w_X6_notes (Nat.le_refl 0) e) (fun _ e => t_X6_notes e) (Nat.le_trans (Nat.le_of_ble_eq_true rfl) hd) (Nat.le_of_ble_eq_true rfl) dX6_closesSums_43 (fun σ7 h => ?_)
      refine r_aload_n (pc := 46) (i := 0) C dX6_closesSums_46 rfl rfl ?_
      refine r_aload_n (pc := 47) (i := 0) C dX6_closesSums_47 rfl rfl ?_
      refine r_getI (pc := 48) C fd_X6_196 rfl dX6_closesSums_48 h (fun v8 h => ?_)
      refine r_iconst (pc := 51) (v := 1) C dX6_closesSums_51 (by decide) ?_
      refine r_isub (pc := 52) C dX6_closesSums_52 ?_
      refine r_putI (pc := 53) C fd_X6_196 ft_X6_14 dX6_closesSums_53 h (fun σ9 h => ?_)
      refine r_goto (pc := 56) (tgt := 0) C dX6_closesSums_56 (by decide) ?_
      refine r_pick (lv' := [(0, rv B a0), (1, .int x1)]) [0, 1] rfl ?_
      exact ih _ h
    · refine r_jn (fun k9 => ∀  (σ10 : MM), k9 σ10 = some σf → xV B G 0 0 σ10 17 [(0, rv B a0), (1, .int x1)] []) h (fun  σ10 h => ?_) (fun k11 hk11 h => ?_)
      · refine r_iload_n (pc := 17) (i := 1) C dX6_closesSums_17 rfl rfl ?_
        refine r_ifeq (pc := 18) (tgt := 59) C dX6_closesSums_18 (by decide) h (fun h => ?_) (fun h => ?_)
        · refine r_pick (lv' := []) [] rfl ?_
          exact hK _ h
        · refine r_aload_n (pc := 21) (i := 0) C dX6_closesSums_21 rfl rfl ?_
          refine r_callVI (pc := 22) (As := []) (st := []) C cs_X6_199_X6_waitTop h (fun _ _ e => w_X6_waitTop (Nat.le_refl 0) e) (fun _ _ e => t_X6_waitTop e) (Nat.le_trans (Nat.le_of_ble_eq_true rfl) hd) (Nat.le_of_ble_eq_true rfl) dX6_closesSums_22 (fun v13 σ12 h => ?_)
          refine r_iconst (pc := 25) (v := 2) C dX6_closesSums_25 (by decide) ?_
          refine r_icmpeq (pc := 26) (tgt := 37) C dX6_closesSums_26 (by decide) h (fun h => ?_) (fun h => ?_)
          · refine r_pick (lv' := [(0, rv B a0), (1, .int x1)]) [0, 1] rfl ?_
            exact hk4 _ h
          · refine r_aload_n (pc := 29) (i := 0) C dX6_closesSums_29 rfl rfl ?_
            refine r_callVI (pc := 30) (As := []) (st := []) C cs_X6_199_X6_waitTop h (fun _ _ e => w_X6_waitTop (Nat.le_refl 0) e) (fun _ _ e => t_X6_waitTop e) (Nat.le_trans (Nat.le_of_ble_eq_true rfl) hd) (Nat.le_of_ble_eq_true rfl) dX6_closesSums_30 (fun v15 σ14 h => ?_)
            refine r_iconst (pc := 33) (v := 3) C dX6_closesSums_33 (by decide) ?_
            refine r_icmpne (pc := 34) (tgt := 59) C dX6_closesSums_34 (by decide) h (fun h => ?_) (fun h => ?_)
            · refine r_pick (lv' := []) [] rfl ?_
              exact hK _ h
            · refine r_pick (lv' := [(0, rv B a0), (1, .int x1)]) [0, 1] rfl ?_
              exact hk4 _ h
      · refine r_icmplt (pc := 5) (tgt := 17) C dX6_closesSums_5 (by decide) h (fun h => ?_) (fun h => ?_)
        · refine r_pick (lv' := [(0, rv B a0), (1, .int x1)]) [0, 1] rfl ?_
          exact hk11 _ h
        · refine r_aload_n (pc := 8) (i := 0) C dX6_closesSums_8 rfl rfl ?_
          refine r_callVI (pc := 9) (As := []) (st := []) C cs_X6_199_X6_waitTop h (fun _ _ e => w_X6_waitTop (Nat.le_refl 0) e) (fun _ _ e => t_X6_waitTop e) (Nat.le_trans (Nat.le_of_ble_eq_true rfl) hd) (Nat.le_of_ble_eq_true rfl) dX6_closesSums_9 (fun v17 σ16 h => ?_)
          refine r_bipush (pc := 12) (v := 6) C dX6_closesSums_12 (by decide) ?_
          refine r_icmple (pc := 14) (tgt := 37) C dX6_closesSums_14 (by decide) h (fun h => ?_) (fun h => ?_)
          · refine r_pick (lv' := [(0, rv B a0), (1, .int x1)]) [0, 1] rfl ?_
            exact hk4 _ h
          · refine r_pick (lv' := [(0, rv B a0), (1, .int x1)]) [0, 1] rfl ?_
            exact hk11 _ h
theorem w_X6_closesSums {B F : Nat} {d : Nat} {σ : MM} {a0 : Nat} {x1 : Int32} {σf : MM} (hd : 1 ≤ d) (h : g_X6_closesSums F σ a0 x1 = some σf) : xMA B yX6_closesSums cX6_closesSums 2 none d 0 0 [rv B a0, .int x1] σ none σf := by
  refine xMA.of (by decide +kernel) (Nat.le_of_ble_eq_true rfl) (cat_rv (cat_int cat_nil)) (fun G C E => ?_)
  unfold g_X6_closesSums at h
  obtain ⟨-, h⟩ := r_ck h
  refine r_pick (lv' := [(0, rv B a0), (1, .int x1)]) [0, 1] rfl ?_
  refine wl_X6_closesSums_0 hd C E (fun  σ18 h => ?_) _ _ h
  exact r_vret (pc := 59) C rfl dX6_closesSums_59 h E
theorem t_X6_closesSums {F : Nat} {σ : MM} {a0 : Nat} {x1 : Int32} {r : MM} (h : g_X6_closesSums F σ a0 x1 = some r) : mT σ a0 = (5, 62) := by
  unfold g_X6_closesSums at h
  exact (r_ck h).1
def l_X6_hasOpenSum_2 (K : MM → Option (Int32 × MM)) (F : Nat) (a0 : Nat) : Nat → Int32 → MM → Option (Int32 × MM)
  | 0, _, _ => none
  | f + 1, z2, σ => (gI σ a0 5 62 14).bind fun v1 => if z2 < v1 then ((gP σ a0 5 62 18).bind fun p2 => (aI σ p2 20 z2).bind fun v3 => (dv v3 1048576).bind fun v4 => if v4 = 14 then (some (1, σ)) else (l_X6_hasOpenSum_2 K F a0 f ((z2 + 1)) σ)) else (K σ)
def g_X6_hasOpenSum (F : Nat) (σ : MM) (a0 : Nat) (x1 : Int32) : Option (Int32 × MM) := if mT σ a0 = (5, 62) then (l_X6_hasOpenSum_2 (fun (σ5 : MM) => some (0, σ5)) F a0 F x1 σ) else none
theorem wl_X6_hasOpenSum_2 {B : Nat} {G : XG} {d : Nat} {rf : Int32} {σf : MM} (hd : 0 ≤ d) (C : xC B G yX6_hasOpenSum cX6_hasOpenSum 3 (some .boolean) d 0 0) (E : xEnd B G (some (.int rf)) σf 0 0) {K : MM → Option (Int32 × MM)} {F : Nat} {a0 : Nat} (hK : ∀ (σ : MM), K σ = some (rf, σf) → xV B G 0 0 σ 32 [] []) : ∀ (f : Nat) (z2 : Int32) (σ : MM), l_X6_hasOpenSum_2 K F a0 f z2 σ = some (rf, σf) → xV B G 0 0 σ 2 [(0, rv B a0), (2, .int z2)] [] := by
  intro f
  induction f with
  | zero =>
    intro z2 σ h
    have h : none = some (rf, σf) := h
    cases h
  | succ f ih =>
    intro z2 σ h
    rw [l_X6_hasOpenSum_2.eq_2] at h
    refine r_iload_n (pc := 2) (i := 2) C dX6_hasOpenSum_2 rfl rfl ?_
    refine r_aload_n (pc := 3) (i := 0) C dX6_hasOpenSum_3 rfl rfl ?_
    refine r_getI (pc := 4) C fd_X6_196 rfl dX6_hasOpenSum_4 h (fun v1 h => ?_)
    refine r_icmpge (pc := 7) (tgt := 32) C dX6_hasOpenSum_7 (by decide) h (fun h => ?_) (fun h => ?_)
    · refine r_pick (lv' := []) [] rfl ?_
      exact hK _ h
    · refine r_aload_n (pc := 10) (i := 0) C dX6_hasOpenSum_10 rfl rfl ?_
      refine r_getP (pc := 11) C fd_X6_32 rfl dX6_hasOpenSum_11 h (fun p2 h => ?_)
      refine r_iload_n (pc := 14) (i := 2) C dX6_hasOpenSum_14 rfl rfl ?_
      refine r_iald (pc := 15) C dX6_hasOpenSum_15 h (fun v3 h => ?_)
      refine r_ldc (pc := 16) C q1518 dX6_hasOpenSum_16 ?_
      refine r_idiv (pc := 18) C dX6_hasOpenSum_18 h (fun v4 h => ?_)
      refine r_bipush (pc := 19) (v := 14) C dX6_hasOpenSum_19 (by decide) ?_
      refine r_icmpne (pc := 21) (tgt := 26) C dX6_hasOpenSum_21 (by decide) h (fun h => ?_) (fun h => ?_)
      · refine r_iinc (pc := 26) (i := 2) (v := (z2 + 1)) C dX6_hasOpenSum_26 rfl rfl (by decide) ?_
        refine r_goto (pc := 29) (tgt := 2) C dX6_hasOpenSum_29 (by decide) ?_
        refine r_pick (lv' := [(0, rv B a0), (2, .int (z2 + 1))]) [0, 2] rfl ?_
        exact ih _ _ h
      · refine r_iconst (pc := 24) (v := 1) C dX6_hasOpenSum_24 (by decide) ?_
        exact r_zretL (pc := 25) C rfl dX6_hasOpenSum_25 (Or.inr rfl) h E
theorem w_X6_hasOpenSum {B F : Nat} {d : Nat} {σ : MM} {a0 : Nat} {x1 : Int32} {rf : Int32} {σf : MM} (hd : 0 ≤ d) (h : g_X6_hasOpenSum F σ a0 x1 = some (rf, σf)) : xMA B yX6_hasOpenSum cX6_hasOpenSum 3 (some .boolean) d 0 0 [rv B a0, .int x1] σ (some (.int rf)) σf := by
  refine xMA.of (by decide +kernel) (Nat.le_of_ble_eq_true rfl) (cat_rv (cat_int cat_nil)) (fun G C E => ?_)
  unfold g_X6_hasOpenSum at h
  obtain ⟨-, h⟩ := r_ck h
  refine r_iload_n (pc := 0) (i := 1) C dX6_hasOpenSum_0 rfl rfl ?_
  refine r_istore_n (pc := 1) (i := 2) C dX6_hasOpenSum_1 rfl (by decide) ?_
  refine r_pick (lv' := [(0, rv B a0), (2, .int x1)]) [0, 2] rfl ?_
  refine wl_X6_hasOpenSum_2 hd C E (fun  σ5 h => ?_) _ _ _ h
  refine r_iconst (pc := 32) (v := 0) C dX6_hasOpenSum_32 (by decide) ?_
  exact r_zretL (pc := 33) C rfl dX6_hasOpenSum_33 (Or.inl rfl) h E
theorem t_X6_hasOpenSum {F : Nat} {σ : MM} {a0 : Nat} {x1 : Int32} {r : Int32 × MM} (h : g_X6_hasOpenSum F σ a0 x1 = some r) : mT σ a0 = (5, 62) := by
  unfold g_X6_hasOpenSum at h
  exact (r_ck h).1
theorem yd_X6_readsFactor : xYd yX6_readsFactor 0 := ⟨by decide +kernel, by decide +kernel, by decide +kernel⟩
theorem cs_X6_215_X6_readsFactor : xCV RX6 215 yX6_readsFactor cX6_readsFactor 2 (some .boolean) 5 62 0 := ⟨by decide, by decide, _, rfl, yd_X6_readsFactor, Or.inl ⟨rfl, lw_V q1510 q1512 qs53 q122 q1513⟩⟩
theorem yd_X6_sumSign : xYd yX6_sumSign 1 := ⟨by decide +kernel, by decide +kernel, by decide +kernel⟩
theorem cs_X6_218_X6_sumSign : xCS RX6 218 yX6_sumSign cX6_sumSign 1 (some .int) 1 := ⟨by decide, yd_X6_sumSign, Or.inl (lw_S q1534 q1535 q122 q1536)⟩
theorem yd_X6_hasOpenSum : xYd yX6_hasOpenSum 1 := ⟨by decide +kernel, by decide +kernel, by decide +kernel⟩
theorem cs_X6_225_X6_hasOpenSum : xCV RX6 225 yX6_hasOpenSum cX6_hasOpenSum 3 (some .boolean) 5 62 1 := ⟨by decide, by decide, _, rfl, yd_X6_hasOpenSum, Or.inl ⟨rfl, lw_V q1545 q1547 qs60 q122 q1548⟩⟩
theorem yd_X6_closesSums : xYd yX6_closesSums 1 := ⟨by decide +kernel, by decide +kernel, by decide +kernel⟩
theorem cs_X6_221_X6_closesSums : xCV RX6 221 yX6_closesSums cX6_closesSums 2 none 5 62 1 := ⟨by decide, by decide, _, rfl, yd_X6_closesSums, Or.inl ⟨rfl, lw_V q1537 q1539 qs58 q122 q1540⟩⟩
def l_X6_readsSum_14 (F : Nat) (a0 : Nat) (x1 : Int32) : Nat → MM → Option (Int32 × MM)
  | 0, _ => none
  | f + 1, σ => bq (g_X6_here F σ a0) fun v5 σ4 => bq (g_X6_sumSign F σ4 v5) fun v7 σ6 => if v7 = (-1) then (bq (g_X6_here F σ6 a0) fun v9 σ8 => jn (fun  (σ10 : MM) => bq (g_X6_hasOpenSum F σ10 a0 x1) fun v13 σ12 => if v13 = 0 then ((g_X6_closesSums F σ12 a0 1).bind fun σ14 => some (1, σ14)) else ((gI σ12 a0 5 62 8).bind fun v15 => bq (g_X6_wrongAt F σ12 a0 1 v15) fun v17 σ16 => (rz v17).bind fun u => some (u, σ16))) (fun k11 => if v9 = 93 then (bq (g_X6_hasOpenSum F σ8 a0 x1) fun v19 σ18 => if v19 = 0 then (k11 σ18) else ((g_X6_closesSums F σ18 a0 1).bind fun σ20 => (gI σ20 a0 5 62 14).bind fun v21 => (pI σ20 a0 5 62 14 ((v21 - 1))).bind fun σ22 => (gI σ22 a0 5 62 12).bind fun v23 => (pI σ22 a0 5 62 12 ((v23 - 1))).bind fun σ24 => (gI σ24 a0 5 62 8).bind fun v25 => (pI σ24 a0 5 62 8 ((v25 + 1))).bind fun σ26 => l_X6_readsSum_14 F a0 x1 f σ26)) else (k11 σ8))) else (jn (fun (w28 : Int32) (σ27 : MM) => (g_X6_closesSums F σ27 a0 w28).bind fun σ30 => (gP σ30 a0 5 62 18).bind fun p31 => (gI σ30 a0 5 62 14).bind fun v32 => (sI σ30 p31 v32 ((1048576 * v7))).bind fun σ33 => (gI σ33 a0 5 62 14).bind fun v34 => (pI σ33 a0 5 62 14 ((v34 + 1))).bind fun σ35 => (gI σ35 a0 5 62 8).bind fun v36 => (pI σ35 a0 5 62 8 ((v36 + 1))).bind fun σ37 => bq (g_X6_readsFactor F σ37 a0) fun v39 σ38 => if v39 = 0 then (some (0, σ38)) else (l_X6_readsSum_14 F a0 x1 f σ38)) (fun k29 => if v7 < 4 then (k29 1 σ6) else (k29 0 σ6)))
def g_X6_readsSum (F : Nat) (σ : MM) (a0 : Nat) : Option (Int32 × MM) := if mT σ a0 = (5, 62) then ((gI σ a0 5 62 14).bind fun v1 => bq (g_X6_readsFactor F σ a0) fun v3 σ2 => if v3 = 0 then (some (0, σ2)) else (l_X6_readsSum_14 F a0 v1 F σ2)) else none
theorem wl_X6_readsSum_14 {B : Nat} {G : XG} {d : Nat} {rf : Int32} {σf : MM} (hd : 4 ≤ d) (C : xC B G yX6_readsSum cX6_readsSum 3 (some .boolean) d 0 0) (E : xEnd B G (some (.int rf)) σf 0 0) {F : Nat} {a0 : Nat} {x1 : Int32} : ∀ (f : Nat) (σ : MM), l_X6_readsSum_14 F a0 x1 f σ = some (rf, σf) → xV B G 0 0 σ 14 [(0, rv B a0), (1, .int x1)] [] := by
  intro f
  induction f with
  | zero =>
    intro σ h
    have h : none = some (rf, σf) := h
    cases h
  | succ f ih =>
    intro σ h
    rw [l_X6_readsSum_14.eq_2] at h
    refine r_aload_n (pc := 14) (i := 0) C dX6_readsSum_14 rfl rfl ?_
    refine r_callVI (pc := 15) (As := []) (st := []) C cs_X6_172_X6_here h (fun _ _ e => w_X6_here (Nat.le_refl 0) e) (fun _ _ e => t_X6_here e) (Nat.le_trans (Nat.le_of_ble_eq_true rfl) hd) (Nat.le_of_ble_eq_true rfl) dX6_readsSum_15 (fun v5 σ4 h => ?_)
    refine r_callSI (pc := 18) (As := [.int v5]) (st := []) C cs_X6_218_X6_sumSign h (fun _ _ e => w_X6_sumSign (Nat.le_refl 0) e) (Nat.le_trans (Nat.le_of_ble_eq_true rfl) hd) (Nat.le_of_ble_eq_true rfl) dX6_readsSum_18 (fun v7 σ6 h => ?_)
    refine r_istore_n (pc := 21) (i := 2) C dX6_readsSum_21 rfl (by decide) ?_
    refine r_iload_n (pc := 22) (i := 2) C dX6_readsSum_22 rfl rfl ?_
    refine r_iconst (pc := 23) (v := (-1)) C dX6_readsSum_23 (by decide) ?_
    refine r_icmpeq (pc := 24) (tgt := 83) C dX6_readsSum_24 (by decide) h (fun h => ?_) (fun h => ?_)
    · refine r_aload_n (pc := 83) (i := 0) C dX6_readsSum_83 rfl rfl ?_
      refine r_callVI (pc := 84) (As := []) (st := []) C cs_X6_172_X6_here h (fun _ _ e => w_X6_here (Nat.le_refl 0) e) (fun _ _ e => t_X6_here e) (Nat.le_trans (Nat.le_of_ble_eq_true rfl) hd) (Nat.le_of_ble_eq_true rfl) dX6_readsSum_84 (fun v9 σ8 h => ?_)
      refine r_bipush (pc := 87) (v := 93) C dX6_readsSum_87 (by decide) ?_
      refine r_jn (fun k9 => ∀  (σ10 : MM), k9 σ10 = some (rf, σf) → xV B G 0 0 σ10 138 [(0, rv B a0), (1, .int x1)] []) h (fun  σ10 h => ?_) (fun k11 hk11 h => ?_)
      · refine r_aload_n (pc := 138) (i := 0) C dX6_readsSum_138 rfl rfl ?_
        refine r_iload_n (pc := 139) (i := 1) C dX6_readsSum_139 rfl rfl ?_
        refine r_callVI (pc := 140) (As := [.int x1]) (st := []) C cs_X6_225_X6_hasOpenSum h (fun _ _ e => w_X6_hasOpenSum (Nat.le_refl 0) e) (fun _ _ e => t_X6_hasOpenSum e) (Nat.le_trans (Nat.le_of_ble_eq_true rfl) hd) (Nat.le_of_ble_eq_true rfl) dX6_readsSum_140 (fun v13 σ12 h => ?_)
        refine r_ifeq (pc := 143) (tgt := 156) C dX6_readsSum_143 (by decide) h (fun h => ?_) (fun h => ?_)
        · refine r_aload_n (pc := 156) (i := 0) C dX6_readsSum_156 rfl rfl ?_
          refine r_iconst (pc := 157) (v := 1) C dX6_readsSum_157 (by decide) ?_
          refine r_callVV (pc := 158) (As := [.int 1]) (st := []) C cs_X6_221_X6_closesSums h (fun _ e => w_X6_closesSums (Nat.le_refl 1) e) (fun _ e => t_X6_closesSums e) (Nat.le_trans (Nat.le_of_ble_eq_true rfl) hd) (Nat.le_of_ble_eq_true rfl) dX6_readsSum_158 (fun σ14 h => ?_)
          refine r_iconst (pc := 161) (v := 1) C dX6_readsSum_161 (by decide) ?_
          exact r_zretL (pc := 162) C rfl dX6_readsSum_162 (Or.inr rfl) h E
        · refine r_aload_n (pc := 146) (i := 0) C dX6_readsSum_146 rfl rfl ?_
          refine r_iconst (pc := 147) (v := 1) C dX6_readsSum_147 (by decide) ?_
          refine r_aload_n (pc := 148) (i := 0) C dX6_readsSum_148 rfl rfl ?_
          refine r_getI (pc := 149) C fd_X6_166 rfl dX6_readsSum_149 h (fun v15 h => ?_)
          refine r_callVI (pc := 152) (As := [.int 1, .int v15]) (st := []) C cs_X6_179_X6_wrongAt h (fun _ _ e => w_X6_wrongAt (Nat.le_refl 0) e) (fun _ _ e => t_X6_wrongAt e) (Nat.le_trans (Nat.le_of_ble_eq_true rfl) hd) (Nat.le_of_ble_eq_true rfl) dX6_readsSum_152 (fun v17 σ16 h => ?_)
          exact r_zret (pc := 155) C rfl dX6_readsSum_155 h E
      · refine r_icmpne (pc := 89) (tgt := 138) C dX6_readsSum_89 (by decide) h (fun h => ?_) (fun h => ?_)
        · refine r_pick (lv' := [(0, rv B a0), (1, .int x1)]) [0, 1] rfl ?_
          exact hk11 _ h
        · refine r_aload_n (pc := 92) (i := 0) C dX6_readsSum_92 rfl rfl ?_
          refine r_iload_n (pc := 93) (i := 1) C dX6_readsSum_93 rfl rfl ?_
          refine r_callVI (pc := 94) (As := [.int x1]) (st := []) C cs_X6_225_X6_hasOpenSum h (fun _ _ e => w_X6_hasOpenSum (Nat.le_refl 0) e) (fun _ _ e => t_X6_hasOpenSum e) (Nat.le_trans (Nat.le_of_ble_eq_true rfl) hd) (Nat.le_of_ble_eq_true rfl) dX6_readsSum_94 (fun v19 σ18 h => ?_)
          refine r_ifeq (pc := 97) (tgt := 138) C dX6_readsSum_97 (by decide) h (fun h => ?_) (fun h => ?_)
          · refine r_pick (lv' := [(0, rv B a0), (1, .int x1)]) [0, 1] rfl ?_
            exact hk11 _ h
          · refine r_aload_n (pc := 100) (i := 0) C dX6_readsSum_100 rfl rfl ?_
            refine r_iconst (pc := 101) (v := 1) C dX6_readsSum_101 (by decide) ?_
            refine r_callVV (pc := 102) (As := [.int 1]) (st := []) C cs_X6_221_X6_closesSums h (fun _ e => w_X6_closesSums (Nat.le_refl 1) e) (fun _ e => t_X6_closesSums e) (Nat.le_trans (Nat.le_of_ble_eq_true rfl) hd) (Nat.le_of_ble_eq_true rfl) dX6_readsSum_102 (fun σ20 h => ?_)
            refine r_aload_n (pc := 105) (i := 0) C dX6_readsSum_105 rfl rfl ?_
            refine r_aload_n (pc := 106) (i := 0) C dX6_readsSum_106 rfl rfl ?_
            refine r_getI (pc := 107) C fd_X6_196 rfl dX6_readsSum_107 h (fun v21 h => ?_)
            refine r_iconst (pc := 110) (v := 1) C dX6_readsSum_110 (by decide) ?_
            refine r_isub (pc := 111) C dX6_readsSum_111 ?_
            refine r_putI (pc := 112) C fd_X6_196 ft_X6_14 dX6_readsSum_112 h (fun σ22 h => ?_)
            refine r_aload_n (pc := 115) (i := 0) C dX6_readsSum_115 rfl rfl ?_
            refine r_aload_n (pc := 116) (i := 0) C dX6_readsSum_116 rfl rfl ?_
            refine r_getI (pc := 117) C fd_X6_193 rfl dX6_readsSum_117 h (fun v23 h => ?_)
            refine r_iconst (pc := 120) (v := 1) C dX6_readsSum_120 (by decide) ?_
            refine r_isub (pc := 121) C dX6_readsSum_121 ?_
            refine r_putI (pc := 122) C fd_X6_193 ft_X6_12 dX6_readsSum_122 h (fun σ24 h => ?_)
            refine r_aload_n (pc := 125) (i := 0) C dX6_readsSum_125 rfl rfl ?_
            refine r_aload_n (pc := 126) (i := 0) C dX6_readsSum_126 rfl rfl ?_
            refine r_getI (pc := 127) C fd_X6_166 rfl dX6_readsSum_127 h (fun v25 h => ?_)
            refine r_iconst (pc := 130) (v := 1) C dX6_readsSum_130 (by decide) ?_
            refine r_iadd (pc := 131) C dX6_readsSum_131 ?_
            refine r_putI (pc := 132) C fd_X6_166 ft_X6_8 dX6_readsSum_132 h (fun σ26 h => ?_)
            refine r_goto (pc := 135) (tgt := 163) C dX6_readsSum_135 (by decide) ?_
            refine r_goto (pc := 163) (tgt := 14) C dX6_readsSum_163 (by decide) ?_
            refine r_pick (lv' := [(0, rv B a0), (1, .int x1)]) [0, 1] rfl ?_
            exact ih _ h
    · refine r_aload_n (pc := 27) (i := 0) C dX6_readsSum_27 rfl rfl ?_
      refine r_iload_n (pc := 28) (i := 2) C dX6_readsSum_28 rfl rfl ?_
      refine r_iconst (pc := 29) (v := 4) C dX6_readsSum_29 (by decide) ?_
      refine r_jn (fun k9 => ∀ (w28 : Int32) (σ27 : MM), k9 w28 σ27 = some (rf, σf) → xV B G 0 0 σ27 38 [(0, rv B a0), (1, .int x1), (2, .int v7)] [.int w28, rv B a0]) h (fun w28 σ27 h => ?_) (fun k29 hk29 h => ?_)
      · refine r_callVV (pc := 38) (As := [.int w28]) (st := []) C cs_X6_221_X6_closesSums h (fun _ e => w_X6_closesSums (Nat.le_refl 1) e) (fun _ e => t_X6_closesSums e) (Nat.le_trans (Nat.le_of_ble_eq_true rfl) hd) (Nat.le_of_ble_eq_true rfl) dX6_readsSum_38 (fun σ30 h => ?_)
        refine r_aload_n (pc := 41) (i := 0) C dX6_readsSum_41 rfl rfl ?_
        refine r_getP (pc := 42) C fd_X6_32 rfl dX6_readsSum_42 h (fun p31 h => ?_)
        refine r_aload_n (pc := 45) (i := 0) C dX6_readsSum_45 rfl rfl ?_
        refine r_getI (pc := 46) C fd_X6_196 rfl dX6_readsSum_46 h (fun v32 h => ?_)
        refine r_ldc (pc := 49) C q1518 dX6_readsSum_49 ?_
        refine r_iload_n (pc := 51) (i := 2) C dX6_readsSum_51 rfl rfl ?_
        refine r_imul (pc := 52) C dX6_readsSum_52 ?_
        refine r_iast (pc := 53) C dX6_readsSum_53 h (fun σ33 h => ?_)
        refine r_aload_n (pc := 54) (i := 0) C dX6_readsSum_54 rfl rfl ?_
        refine r_aload_n (pc := 55) (i := 0) C dX6_readsSum_55 rfl rfl ?_
        refine r_getI (pc := 56) C fd_X6_196 rfl dX6_readsSum_56 h (fun v34 h => ?_)
        refine r_iconst (pc := 59) (v := 1) C dX6_readsSum_59 (by decide) ?_
        refine r_iadd (pc := 60) C dX6_readsSum_60 ?_
        refine r_putI (pc := 61) C fd_X6_196 ft_X6_14 dX6_readsSum_61 h (fun σ35 h => ?_)
        refine r_aload_n (pc := 64) (i := 0) C dX6_readsSum_64 rfl rfl ?_
        refine r_aload_n (pc := 65) (i := 0) C dX6_readsSum_65 rfl rfl ?_
        refine r_getI (pc := 66) C fd_X6_166 rfl dX6_readsSum_66 h (fun v36 h => ?_)
        refine r_iconst (pc := 69) (v := 1) C dX6_readsSum_69 (by decide) ?_
        refine r_iadd (pc := 70) C dX6_readsSum_70 ?_
        refine r_putI (pc := 71) C fd_X6_166 ft_X6_8 dX6_readsSum_71 h (fun σ37 h => ?_)
        refine r_aload_n (pc := 74) (i := 0) C dX6_readsSum_74 rfl rfl ?_
        refine r_callVI (pc := 75) (As := []) (st := []) C cs_X6_215_X6_readsFactor h (fun _ _ e => w_X6_readsFactor (Nat.le_refl 3) e) (fun _ _ e => t_X6_readsFactor e) (Nat.le_trans (Nat.le_of_ble_eq_true rfl) hd) (Nat.le_of_ble_eq_true rfl) dX6_readsSum_75 (fun v39 σ38 h => ?_)
        refine r_ifne (pc := 78) (tgt := 163) C dX6_readsSum_78 (by decide) h (fun h => ?_) (fun h => ?_)
        · refine r_goto (pc := 163) (tgt := 14) C dX6_readsSum_163 (by decide) ?_
          refine r_pick (lv' := [(0, rv B a0), (1, .int x1)]) [0, 1] rfl ?_
          exact ih _ h
        · refine r_iconst (pc := 81) (v := 0) C dX6_readsSum_81 (by decide) ?_
          exact r_zretL (pc := 82) C rfl dX6_readsSum_82 (Or.inl rfl) h E
      · refine r_icmpge (pc := 30) (tgt := 37) C dX6_readsSum_30 (by decide) h (fun h => ?_) (fun h => ?_)
        · refine r_iconst (pc := 37) (v := 0) C dX6_readsSum_37 (by decide) ?_
          refine r_pick (lv' := [(0, rv B a0), (1, .int x1), (2, .int v7)]) [0, 1, 2] rfl ?_
          exact hk29 _ _ h
        · refine r_iconst (pc := 33) (v := 1) C dX6_readsSum_33 (by decide) ?_
          refine r_goto (pc := 34) (tgt := 38) C dX6_readsSum_34 (by decide) ?_
          refine r_pick (lv' := [(0, rv B a0), (1, .int x1), (2, .int v7)]) [0, 1, 2] rfl ?_
          exact hk29 _ _ h
theorem w_X6_readsSum {B F : Nat} {d : Nat} {σ : MM} {a0 : Nat} {rf : Int32} {σf : MM} (hd : 4 ≤ d) (h : g_X6_readsSum F σ a0 = some (rf, σf)) : xMA B yX6_readsSum cX6_readsSum 3 (some .boolean) d 0 0 [rv B a0] σ (some (.int rf)) σf := by
  refine xMA.of (by decide +kernel) (Nat.le_of_ble_eq_true rfl) (cat_rv cat_nil) (fun G C E => ?_)
  unfold g_X6_readsSum at h
  obtain ⟨-, h⟩ := r_ck h
  refine r_aload_n (pc := 0) (i := 0) C dX6_readsSum_0 rfl rfl ?_
  refine r_getI (pc := 1) C fd_X6_196 rfl dX6_readsSum_1 h (fun v1 h => ?_)
  refine r_istore_n (pc := 4) (i := 1) C dX6_readsSum_4 rfl (by decide) ?_
  refine r_aload_n (pc := 5) (i := 0) C dX6_readsSum_5 rfl rfl ?_
  refine r_callVI (pc := 6) (As := []) (st := []) C cs_X6_215_X6_readsFactor h (fun _ _ e => w_X6_readsFactor (Nat.le_refl 3) e) (fun _ _ e => t_X6_readsFactor e) (Nat.le_trans (Nat.le_of_ble_eq_true rfl) hd) (Nat.le_of_ble_eq_true rfl) dX6_readsSum_6 (fun v3 σ2 h => ?_)
  refine r_ifne (pc := 9) (tgt := 14) C dX6_readsSum_9 (by decide) h (fun h => ?_) (fun h => ?_)
  · refine r_pick (lv' := [(0, rv B a0), (1, .int v1)]) [0, 1] rfl ?_
    exact wl_X6_readsSum_14 hd C E _ _ h
  · refine r_iconst (pc := 12) (v := 0) C dX6_readsSum_12 (by decide) ?_
    exact r_zretL (pc := 13) C rfl dX6_readsSum_13 (Or.inl rfl) h E
theorem t_X6_readsSum {F : Nat} {σ : MM} {a0 : Nat} {r : Int32 × MM} (h : g_X6_readsSum F σ a0 = some r) : mT σ a0 = (5, 62) := by
  unfold g_X6_readsSum at h
  exact (r_ck h).1
def l_X6_endsPiece_0 (K : MM → Option (MM)) (F : Nat) (a0 : Nat) : Nat → MM → Option (MM)
  | 0, _ => none
  | f + 1, σ => bq (g_X6_waitTop F σ a0) fun v2 σ1 => if v2 = 10 then ((g_X6_notes F σ1 a0 10 0).bind fun σ3 => (gI σ3 a0 5 62 14).bind fun v4 => (pI σ3 a0 5 62 14 ((v4 - 1))).bind fun σ5 => (gI σ5 a0 5 62 12).bind fun v6 => (pI σ5 a0 5 62 12 ((v6 - 1))).bind fun σ7 => l_X6_endsPiece_0 K F a0 f σ7) else (K σ1)
def g_X6_endsPiece (F : Nat) (σ : MM) (a0 : Nat) : Option (MM) := if mT σ a0 = (5, 62) then (l_X6_endsPiece_0 (fun (σ8 : MM) => some σ8) F a0 F σ) else none
theorem wl_X6_endsPiece_0 {B : Nat} {G : XG} {d : Nat} {σf : MM} (hd : 1 ≤ d) (C : xC B G yX6_endsPiece cX6_endsPiece 1 none d 0 0) (E : xEnd B G none σf 0 0) {K : MM → Option (MM)} {F : Nat} {a0 : Nat} (hK : ∀ (σ : MM), K σ = some σf → xV B G 0 0 σ 39 [] []) : ∀ (f : Nat) (σ : MM), l_X6_endsPiece_0 K F a0 f σ = some σf → xV B G 0 0 σ 0 [(0, rv B a0)] [] := by
  intro f
  induction f with
  | zero =>
    intro σ h
    have h : none = some σf := h
    cases h
  | succ f ih =>
    intro σ h
    rw [l_X6_endsPiece_0.eq_2] at h
    refine r_aload_n (pc := 0) (i := 0) C dX6_endsPiece_0 rfl rfl ?_
    refine r_callVI (pc := 1) (As := []) (st := []) C cs_X6_199_X6_waitTop h (fun _ _ e => w_X6_waitTop (Nat.le_refl 0) e) (fun _ _ e => t_X6_waitTop e) (Nat.le_trans (Nat.le_of_ble_eq_true rfl) hd) (Nat.le_of_ble_eq_true rfl) dX6_endsPiece_1 (fun v2 σ1 h => ?_)
    refine r_bipush (pc := 4) (v := 10) C dX6_endsPiece_4 (by decide) ?_
    refine r_icmpne (pc := 6) (tgt := 39) C dX6_endsPiece_6 (by decide) h (fun h => ?_) (fun h => ?_)
    · refine r_pick (lv' := []) [] rfl ?_
      exact hK _ h
    · refine r_aload_n (pc := 9) (i := 0) C dX6_endsPiece_9 rfl rfl ?_
      refine r_bipush (pc := 10) (v := 10) C dX6_endsPiece_10 (by decide) ?_
      refine r_iconst (pc := 12) (v := 0) C dX6_endsPiece_12 (by decide) ?_
      refine r_callVV (pc := 13) (As := [.int 10, .int 0]) (st := []) C cs_X6_202_X6_notes h (fun _ e => w_X6_notes (Nat.le_refl 0) e) (fun _ e => t_X6_notes e) (Nat.le_trans (Nat.le_of_ble_eq_true rfl) hd) (Nat.le_of_ble_eq_true rfl) dX6_endsPiece_13 (fun σ3 h => ?_)
      refine r_aload_n (pc := 16) (i := 0) C dX6_endsPiece_16 rfl rfl ?_
      refine r_aload_n (pc := 17) (i := 0) C dX6_endsPiece_17 rfl rfl ?_
      refine r_getI (pc := 18) C fd_X6_196 rfl dX6_endsPiece_18 h (fun v4 h => ?_)
      refine r_iconst (pc := 21) (v := 1) C dX6_endsPiece_21 (by decide) ?_
      refine r_isub (pc := 22) C dX6_endsPiece_22 ?_
      refine r_putI (pc := 23) C fd_X6_196 ft_X6_14 dX6_endsPiece_23 h (fun σ5 h => ?_)
      refine r_aload_n (pc := 26) (i := 0) C dX6_endsPiece_26 rfl rfl ?_
      refine r_aload_n (pc := 27) (i := 0) C dX6_endsPiece_27 rfl rfl ?_
      refine r_getI (pc := 28) C fd_X6_193 rfl dX6_endsPiece_28 h (fun v6 h => ?_)
      refine r_iconst (pc := 31) (v := 1) C dX6_endsPiece_31 (by decide) ?_
      refine r_isub (pc := 32) C dX6_endsPiece_32 ?_
      refine r_putI (pc := 33) C fd_X6_193 ft_X6_12 dX6_endsPiece_33 h (fun σ7 h => ?_)
      refine r_goto (pc := 36) (tgt := 0) C dX6_endsPiece_36 (by decide) ?_
      refine r_pick (lv' := [(0, rv B a0)]) [0] rfl ?_
      exact ih _ h
theorem w_X6_endsPiece {B F : Nat} {d : Nat} {σ : MM} {a0 : Nat} {σf : MM} (hd : 1 ≤ d) (h : g_X6_endsPiece F σ a0 = some σf) : xMA B yX6_endsPiece cX6_endsPiece 1 none d 0 0 [rv B a0] σ none σf := by
  refine xMA.of (by decide +kernel) (Nat.le_of_ble_eq_true rfl) (cat_rv cat_nil) (fun G C E => ?_)
  unfold g_X6_endsPiece at h
  obtain ⟨-, h⟩ := r_ck h
  refine r_pick (lv' := [(0, rv B a0)]) [0] rfl ?_
  refine wl_X6_endsPiece_0 hd C E (fun  σ8 h => ?_) _ _ h
  exact r_vret (pc := 39) C rfl dX6_endsPiece_39 h E
theorem t_X6_endsPiece {F : Nat} {σ : MM} {a0 : Nat} {r : MM} (h : g_X6_endsPiece F σ a0 = some r) : mT σ a0 = (5, 62) := by
  unfold g_X6_endsPiece at h
  exact (r_ck h).1
theorem yd_X6_readsSum : xYd yX6_readsSum 0 := ⟨by decide +kernel, by decide +kernel, by decide +kernel⟩
theorem cs_X6_228_X6_readsSum : xCV RX6 228 yX6_readsSum cX6_readsSum 3 (some .boolean) 5 62 0 := ⟨by decide, by decide, _, rfl, yd_X6_readsSum, Or.inl ⟨rfl, lw_V q1506 q1508 qs52 q122 q1509⟩⟩
theorem yd_X6_endsPiece : xYd yX6_endsPiece 0 := ⟨by decide +kernel, by decide +kernel, by decide +kernel⟩
theorem cs_X6_231_X6_endsPiece : xCV RX6 231 yX6_endsPiece cX6_endsPiece 1 none 5 62 0 := ⟨by decide, by decide, _, rfl, yd_X6_endsPiece, Or.inl ⟨rfl, lw_V q1557 q1559 qs63 q122 q1560⟩⟩
def g_X6_readsCompared (F : Nat) (σ : MM) (a0 : Nat) : Option (Int32 × MM) := if mT σ a0 = (5, 62) then (bq (g_X6_readsSum F σ a0) fun v2 σ1 => if v2 = 0 then (some (0, σ1)) else (bq (g_X6_here F σ1 a0) fun v4 σ3 => jn (fun (w6 : Int32) (σ5 : MM) => if w6 = (-1) then ((gI σ5 a0 5 62 8).bind fun v14 => bq (g_X6_wrongAt F σ5 a0 1 v14) fun v16 σ15 => (rz v16).bind fun u => some (u, σ15)) else ((gI σ5 a0 5 62 8).bind fun v8 => (pI σ5 a0 5 62 8 ((v8 + 1))).bind fun σ9 => bq (g_X6_readsSum F σ9 a0) fun v11 σ10 => if v11 = 0 then (some (0, σ10)) else ((g_X6_notes F σ10 a0 w6 0).bind fun σ12 => (g_X6_endsPiece F σ12 a0).bind fun σ13 => some (1, σ13)))) (fun k7 => if v4 = 60 then (k7 7 σ3) else (bq (g_X6_here F σ3 a0) fun v18 σ17 => if v18 = 62 then (k7 8 σ17) else (bq (g_X6_here F σ17 a0) fun v20 σ19 => if v20 = 61 then (k7 9 σ19) else (k7 ((-1)) σ19)))))) else none
theorem w_X6_readsCompared {B F : Nat} {d : Nat} {σ : MM} {a0 : Nat} {rf : Int32} {σf : MM} (hd : 5 ≤ d) (h : g_X6_readsCompared F σ a0 = some (rf, σf)) : xMA B yX6_readsCompared cX6_readsCompared 2 (some .boolean) d 0 0 [rv B a0] σ (some (.int rf)) σf := by
  refine xMA.of (by decide +kernel) (Nat.le_of_ble_eq_true rfl) (cat_rv cat_nil) (fun G C E => ?_)
  unfold g_X6_readsCompared at h
  obtain ⟨-, h⟩ := r_ck h
  refine r_aload_n (pc := 0) (i := 0) C dX6_readsCompared_0 rfl rfl ?_
  refine r_callVI (pc := 1) (As := []) (st := []) C cs_X6_228_X6_readsSum h (fun _ _ e => w_X6_readsSum (Nat.le_refl 4) e) (fun _ _ e => t_X6_readsSum e) (Nat.le_trans (Nat.le_of_ble_eq_true rfl) hd) (Nat.le_of_ble_eq_true rfl) dX6_readsCompared_1 (fun v2 σ1 h => ?_)
  refine r_ifne (pc := 4) (tgt := 9) C dX6_readsCompared_4 (by decide) h (fun h => ?_) (fun h => ?_)
  · refine r_aload_n (pc := 9) (i := 0) C dX6_readsCompared_9 rfl rfl ?_
    refine r_callVI (pc := 10) (As := []) (st := []) C cs_X6_172_X6_here h (fun _ _ e => w_X6_here (Nat.le_refl 0) e) (fun _ _ e => t_X6_here e) (Nat.le_trans (Nat.le_of_ble_eq_true rfl) hd) (Nat.le_of_ble_eq_true rfl) dX6_readsCompared_10 (fun v4 σ3 h => ?_)
    refine r_bipush (pc := 13) (v := 60) C dX6_readsCompared_13 (by decide) ?_
    refine r_jn (fun k9 => ∀ (w6 : Int32) (σ5 : MM), k9 w6 σ5 = some (rf, σf) → xV B G 0 0 σ5 52 [(0, rv B a0)] [.int w6]) h (fun w6 σ5 h => ?_) (fun k7 hk7 h => ?_)
    · refine r_istore_n (pc := 52) (i := 1) C dX6_readsCompared_52 rfl (by decide) ?_
      refine r_iload_n (pc := 53) (i := 1) C dX6_readsCompared_53 rfl rfl ?_
      refine r_iconst (pc := 54) (v := (-1)) C dX6_readsCompared_54 (by decide) ?_
      refine r_icmpne (pc := 55) (tgt := 68) C dX6_readsCompared_55 (by decide) h (fun h => ?_) (fun h => ?_)
      · refine r_aload_n (pc := 68) (i := 0) C dX6_readsCompared_68 rfl rfl ?_
        refine r_aload_n (pc := 69) (i := 0) C dX6_readsCompared_69 rfl rfl ?_
        refine r_getI (pc := 70) C fd_X6_166 rfl dX6_readsCompared_70 h (fun v8 h => ?_)
        refine r_iconst (pc := 73) (v := 1) C dX6_readsCompared_73 (by decide) ?_
        refine r_iadd (pc := 74) C dX6_readsCompared_74 ?_
        refine r_putI (pc := 75) C fd_X6_166 ft_X6_8 dX6_readsCompared_75 h (fun σ9 h => ?_)
        refine r_aload_n (pc := 78) (i := 0) C dX6_readsCompared_78 rfl rfl ?_
        refine r_callVI (pc := 79) (As := []) (st := []) C cs_X6_228_X6_readsSum h (fun _ _ e => w_X6_readsSum (Nat.le_refl 4) e) (fun _ _ e => t_X6_readsSum e) (Nat.le_trans (Nat.le_of_ble_eq_true rfl) hd) (Nat.le_of_ble_eq_true rfl) dX6_readsCompared_79 (fun v11 σ10 h => ?_)
        refine r_ifne (pc := 82) (tgt := 87) C dX6_readsCompared_82 (by decide) h (fun h => ?_) (fun h => ?_)
        · refine r_aload_n (pc := 87) (i := 0) C dX6_readsCompared_87 rfl rfl ?_
          refine r_iload_n (pc := 88) (i := 1) C dX6_readsCompared_88 rfl rfl ?_
          refine r_iconst (pc := 89) (v := 0) C dX6_readsCompared_89 (by decide) ?_
          refine r_callVV (pc := 90) (As := [.int w6, .int 0]) (st := []) C cs_X6_202_X6_notes h (fun _ e => w_X6_notes (Nat.le_refl 0) e) (fun _ e => t_X6_notes e) (Nat.le_trans (Nat.le_of_ble_eq_true rfl) hd) (Nat.le_of_ble_eq_true rfl) dX6_readsCompared_90 (fun σ12 h => ?_)
          refine r_aload_n (pc := 93) (i := 0) C dX6_readsCompared_93 rfl rfl ?_
          refine r_callVV (pc := 94) (As := []) (st := []) C cs_X6_231_X6_endsPiece h (fun _ e => w_X6_endsPiece (Nat.le_refl 1) e) (fun _ e => t_X6_endsPiece e) (Nat.le_trans (Nat.le_of_ble_eq_true rfl) hd) (Nat.le_of_ble_eq_true rfl) dX6_readsCompared_94 (fun σ13 h => ?_)
          refine r_iconst (pc := 97) (v := 1) C dX6_readsCompared_97 (by decide) ?_
          exact r_zretL (pc := 98) C rfl dX6_readsCompared_98 (Or.inr rfl) h E
        · refine r_iconst (pc := 85) (v := 0) C dX6_readsCompared_85 (by decide) ?_
          exact r_zretL (pc := 86) C rfl dX6_readsCompared_86 (Or.inl rfl) h E
      · refine r_aload_n (pc := 58) (i := 0) C dX6_readsCompared_58 rfl rfl ?_
        refine r_iconst (pc := 59) (v := 1) C dX6_readsCompared_59 (by decide) ?_
        refine r_aload_n (pc := 60) (i := 0) C dX6_readsCompared_60 rfl rfl ?_
        refine r_getI (pc := 61) C fd_X6_166 rfl dX6_readsCompared_61 h (fun v14 h => ?_)
        refine r_callVI (pc := 64) (As := [.int 1, .int v14]) (st := []) C cs_X6_179_X6_wrongAt h (fun _ _ e => w_X6_wrongAt (Nat.le_refl 0) e) (fun _ _ e => t_X6_wrongAt e) (Nat.le_trans (Nat.le_of_ble_eq_true rfl) hd) (Nat.le_of_ble_eq_true rfl) dX6_readsCompared_64 (fun v16 σ15 h => ?_)
        exact r_zret (pc := 67) C rfl dX6_readsCompared_67 h E
    · refine r_icmpne (pc := 15) (tgt := 23) C dX6_readsCompared_15 (by decide) h (fun h => ?_) (fun h => ?_)
      · refine r_aload_n (pc := 23) (i := 0) C dX6_readsCompared_23 rfl rfl ?_
        refine r_callVI (pc := 24) (As := []) (st := []) C cs_X6_172_X6_here h (fun _ _ e => w_X6_here (Nat.le_refl 0) e) (fun _ _ e => t_X6_here e) (Nat.le_trans (Nat.le_of_ble_eq_true rfl) hd) (Nat.le_of_ble_eq_true rfl) dX6_readsCompared_24 (fun v18 σ17 h => ?_)
        refine r_bipush (pc := 27) (v := 62) C dX6_readsCompared_27 (by decide) ?_
        refine r_icmpne (pc := 29) (tgt := 37) C dX6_readsCompared_29 (by decide) h (fun h => ?_) (fun h => ?_)
        · refine r_aload_n (pc := 37) (i := 0) C dX6_readsCompared_37 rfl rfl ?_
          refine r_callVI (pc := 38) (As := []) (st := []) C cs_X6_172_X6_here h (fun _ _ e => w_X6_here (Nat.le_refl 0) e) (fun _ _ e => t_X6_here e) (Nat.le_trans (Nat.le_of_ble_eq_true rfl) hd) (Nat.le_of_ble_eq_true rfl) dX6_readsCompared_38 (fun v20 σ19 h => ?_)
          refine r_bipush (pc := 41) (v := 61) C dX6_readsCompared_41 (by decide) ?_
          refine r_icmpne (pc := 43) (tgt := 51) C dX6_readsCompared_43 (by decide) h (fun h => ?_) (fun h => ?_)
          · refine r_iconst (pc := 51) (v := (-1)) C dX6_readsCompared_51 (by decide) ?_
            refine r_pick (lv' := [(0, rv B a0)]) [0] rfl ?_
            exact hk7 _ _ h
          · refine r_bipush (pc := 46) (v := 9) C dX6_readsCompared_46 (by decide) ?_
            refine r_goto (pc := 48) (tgt := 52) C dX6_readsCompared_48 (by decide) ?_
            refine r_pick (lv' := [(0, rv B a0)]) [0] rfl ?_
            exact hk7 _ _ h
        · refine r_bipush (pc := 32) (v := 8) C dX6_readsCompared_32 (by decide) ?_
          refine r_goto (pc := 34) (tgt := 52) C dX6_readsCompared_34 (by decide) ?_
          refine r_pick (lv' := [(0, rv B a0)]) [0] rfl ?_
          exact hk7 _ _ h
      · refine r_bipush (pc := 18) (v := 7) C dX6_readsCompared_18 (by decide) ?_
        refine r_goto (pc := 20) (tgt := 52) C dX6_readsCompared_20 (by decide) ?_
        refine r_pick (lv' := [(0, rv B a0)]) [0] rfl ?_
        exact hk7 _ _ h
  · refine r_iconst (pc := 7) (v := 0) C dX6_readsCompared_7 (by decide) ?_
    exact r_zretL (pc := 8) C rfl dX6_readsCompared_8 (Or.inl rfl) h E
theorem t_X6_readsCompared {F : Nat} {σ : MM} {a0 : Nat} {r : Int32 × MM} (h : g_X6_readsCompared F σ a0 = some r) : mT σ a0 = (5, 62) := by
  unfold g_X6_readsCompared at h
  exact (r_ck h).1
def l_X6_lands_0 (K : MM → Option (MM)) (F : Nat) (a0 : Nat) (x1 : Int32) : Nat → MM → Option (MM)
  | 0, _ => none
  | f + 1, σ => bq (g_X6_waitTop F σ a0) fun v2 σ1 => jn (fun  (σ3 : MM) => (gP σ3 a0 5 62 18).bind fun p5 => (gI σ3 a0 5 62 14).bind fun v6 => (aI σ3 p5 20 ((v6 - 1))).bind fun v7 => (rm_ v7 1048576).bind fun v8 => (gP σ3 a0 5 62 17).bind fun p9 => (gP σ3 a0 5 62 17).bind fun p10 => (aI σ3 p10 20 v8).bind fun v11 => (dv v11 1048576).bind fun v12 => (gI σ3 a0 5 62 13).bind fun v13 => (sI σ3 p9 v8 (((1048576 * v12) + v13))).bind fun σ14 => (gI σ14 a0 5 62 14).bind fun v15 => (pI σ14 a0 5 62 14 ((v15 - 1))).bind fun σ16 => l_X6_lands_0 K F a0 x1 f σ16) (fun k4 => if v2 = 11 then (k4 σ1) else (if x1 = 0 then (K σ1) else (bq (g_X6_waitTop F σ1 a0) fun v18 σ17 => if v18 = 12 then (k4 σ17) else (K σ17))))
def g_X6_lands (F : Nat) (σ : MM) (a0 : Nat) (x1 : Int32) : Option (MM) := if mT σ a0 = (5, 62) then (l_X6_lands_0 (fun (σ19 : MM) => some σ19) F a0 x1 F σ) else none
theorem wl_X6_lands_0 {B : Nat} {G : XG} {d : Nat} {σf : MM} (hd : 1 ≤ d) (C : xC B G yX6_lands cX6_lands 3 none d 0 0) (E : xEnd B G none σf 0 0) {K : MM → Option (MM)} {F : Nat} {a0 : Nat} {x1 : Int32} (hK : ∀ (σ : MM), K σ = some σf → xV B G 0 0 σ 73 [] []) : ∀ (f : Nat) (σ : MM), l_X6_lands_0 K F a0 x1 f σ = some σf → xV B G 0 0 σ 0 [(0, rv B a0), (1, .int x1)] [] := by
  intro f
  induction f with
  | zero =>
    intro σ h
    have h : none = some σf := h
    cases h
  | succ f ih =>
    intro σ h
    rw [l_X6_lands_0.eq_2] at h
    refine r_aload_n (pc := 0) (i := 0) C dX6_lands_0 rfl rfl ?_
    refine r_callVI (pc := 1) (As := []) (st := []) C cs_X6_199_X6_waitTop h (fun _ _ e => w_X6_waitTop (Nat.le_refl 0) e) (fun _ _ e => t_X6_waitTop e) (Nat.le_trans (Nat.le_of_ble_eq_true rfl) hd) (Nat.le_of_ble_eq_true rfl) dX6_lands_1 (fun v2 σ1 h => ?_)
    refine r_bipush (pc := 4) (v := 11) C dX6_lands_4 (by decide) ?_
    refine r_jn (fun k9 => ∀  (σ3 : MM), k9 σ3 = some σf → xV B G 0 0 σ3 22 [(0, rv B a0), (1, .int x1)] []) h (fun  σ3 h => ?_) (fun k4 hk4 h => ?_)
    · refine r_aload_n (pc := 22) (i := 0) C dX6_lands_22 rfl rfl ?_
      refine r_getP (pc := 23) C fd_X6_32 rfl dX6_lands_23 h (fun p5 h => ?_)
      refine r_aload_n (pc := 26) (i := 0) C dX6_lands_26 rfl rfl ?_
      refine r_getI (pc := 27) C fd_X6_196 rfl dX6_lands_27 h (fun v6 h => ?_)
      refine r_iconst (pc := 30) (v := 1) C dX6_lands_30 (by decide) ?_
      refine r_isub (pc := 31) C dX6_lands_31 ?_
      refine r_iald (pc := 32) C dX6_lands_32 h (fun v7 h => ?_)
      refine r_ldc (pc := 33) C q1518 dX6_lands_33 ?_
      refine r_irem (pc := 35) C dX6_lands_35 h (fun v8 h => ?_)
      refine r_istore_n (pc := 36) (i := 2) C dX6_lands_36 rfl (by decide) ?_
      refine r_aload_n (pc := 37) (i := 0) C dX6_lands_37 rfl rfl ?_
      refine r_getP (pc := 38) C fd_X6_29 rfl dX6_lands_38 h (fun p9 h => ?_)
      refine r_iload_n (pc := 41) (i := 2) C dX6_lands_41 rfl rfl ?_
      refine r_ldc (pc := 42) C q1518 dX6_lands_42 ?_
      refine r_aload_n (pc := 44) (i := 0) C dX6_lands_44 rfl rfl ?_
      refine r_getP (pc := 45) C fd_X6_29 rfl dX6_lands_45 h (fun p10 h => ?_)
      refine r_iload_n (pc := 48) (i := 2) C dX6_lands_48 rfl rfl ?_
      refine r_iald (pc := 49) C dX6_lands_49 h (fun v11 h => ?_)
      refine r_ldc (pc := 50) C q1518 dX6_lands_50 ?_
      refine r_idiv (pc := 52) C dX6_lands_52 h (fun v12 h => ?_)
      refine r_imul (pc := 53) C dX6_lands_53 ?_
      refine r_aload_n (pc := 54) (i := 0) C dX6_lands_54 rfl rfl ?_
      refine r_getI (pc := 55) C fd_X6_189 rfl dX6_lands_55 h (fun v13 h => ?_)
      refine r_iadd (pc := 58) C dX6_lands_58 ?_
      refine r_iast (pc := 59) C dX6_lands_59 h (fun σ14 h => ?_)
      refine r_aload_n (pc := 60) (i := 0) C dX6_lands_60 rfl rfl ?_
      refine r_aload_n (pc := 61) (i := 0) C dX6_lands_61 rfl rfl ?_
      refine r_getI (pc := 62) C fd_X6_196 rfl dX6_lands_62 h (fun v15 h => ?_)
      refine r_iconst (pc := 65) (v := 1) C dX6_lands_65 (by decide) ?_
      refine r_isub (pc := 66) C dX6_lands_66 ?_
      refine r_putI (pc := 67) C fd_X6_196 ft_X6_14 dX6_lands_67 h (fun σ16 h => ?_)
      refine r_goto (pc := 70) (tgt := 0) C dX6_lands_70 (by decide) ?_
      refine r_pick (lv' := [(0, rv B a0), (1, .int x1)]) [0, 1] rfl ?_
      exact ih _ h
    · refine r_icmpeq (pc := 6) (tgt := 22) C dX6_lands_6 (by decide) h (fun h => ?_) (fun h => ?_)
      · refine r_pick (lv' := [(0, rv B a0), (1, .int x1)]) [0, 1] rfl ?_
        exact hk4 _ h
      · refine r_iload_n (pc := 9) (i := 1) C dX6_lands_9 rfl rfl ?_
        refine r_ifeq (pc := 10) (tgt := 73) C dX6_lands_10 (by decide) h (fun h => ?_) (fun h => ?_)
        · refine r_pick (lv' := []) [] rfl ?_
          exact hK _ h
        · refine r_aload_n (pc := 13) (i := 0) C dX6_lands_13 rfl rfl ?_
          refine r_callVI (pc := 14) (As := []) (st := []) C cs_X6_199_X6_waitTop h (fun _ _ e => w_X6_waitTop (Nat.le_refl 0) e) (fun _ _ e => t_X6_waitTop e) (Nat.le_trans (Nat.le_of_ble_eq_true rfl) hd) (Nat.le_of_ble_eq_true rfl) dX6_lands_14 (fun v18 σ17 h => ?_)
          refine r_bipush (pc := 17) (v := 12) C dX6_lands_17 (by decide) ?_
          refine r_icmpne (pc := 19) (tgt := 73) C dX6_lands_19 (by decide) h (fun h => ?_) (fun h => ?_)
          · refine r_pick (lv' := []) [] rfl ?_
            exact hK _ h
          · refine r_pick (lv' := [(0, rv B a0), (1, .int x1)]) [0, 1] rfl ?_
            exact hk4 _ h
theorem w_X6_lands {B F : Nat} {d : Nat} {σ : MM} {a0 : Nat} {x1 : Int32} {σf : MM} (hd : 1 ≤ d) (h : g_X6_lands F σ a0 x1 = some σf) : xMA B yX6_lands cX6_lands 3 none d 0 0 [rv B a0, .int x1] σ none σf := by
  refine xMA.of (by decide +kernel) (Nat.le_of_ble_eq_true rfl) (cat_rv (cat_int cat_nil)) (fun G C E => ?_)
  unfold g_X6_lands at h
  obtain ⟨-, h⟩ := r_ck h
  refine r_pick (lv' := [(0, rv B a0), (1, .int x1)]) [0, 1] rfl ?_
  refine wl_X6_lands_0 hd C E (fun  σ19 h => ?_) _ _ h
  exact r_vret (pc := 73) C rfl dX6_lands_73 h E
theorem t_X6_lands {F : Nat} {σ : MM} {a0 : Nat} {x1 : Int32} {r : MM} (h : g_X6_lands F σ a0 x1 = some r) : mT σ a0 = (5, 62) := by
  unfold g_X6_lands at h
  exact (r_ck h).1
def g_X6_jumps (F : Nat) (σ : MM) (a0 : Nat) (x1 : Int32) : Option (MM) := if mT σ a0 = (5, 62) then ((gP σ a0 5 62 18).bind fun p1 => (gI σ a0 5 62 14).bind fun v2 => (gI σ a0 5 62 13).bind fun v3 => (sI σ p1 v2 (((1048576 * x1) + v3))).bind fun σ4 => (gI σ4 a0 5 62 14).bind fun v5 => (pI σ4 a0 5 62 14 ((v5 + 1))).bind fun σ6 => (g_X6_notes F σ6 a0 x1 0).bind fun σ7 => (gI σ7 a0 5 62 8).bind fun v8 => (pI σ7 a0 5 62 8 ((v8 + 1))).bind fun σ9 => some σ9) else none
theorem w_X6_jumps {B F : Nat} {d : Nat} {σ : MM} {a0 : Nat} {x1 : Int32} {σf : MM} (hd : 1 ≤ d) (h : g_X6_jumps F σ a0 x1 = some σf) : xMA B yX6_jumps cX6_jumps 2 none d 0 0 [rv B a0, .int x1] σ none σf := by
  refine xMA.of (by decide +kernel) (Nat.le_of_ble_eq_true rfl) (cat_rv (cat_int cat_nil)) (fun G C E => ?_)
  unfold g_X6_jumps at h
  obtain ⟨-, h⟩ := r_ck h
  refine r_aload_n (pc := 0) (i := 0) C dX6_jumps_0 rfl rfl ?_
  refine r_getP (pc := 1) C fd_X6_32 rfl dX6_jumps_1 h (fun p1 h => ?_)
  refine r_aload_n (pc := 4) (i := 0) C dX6_jumps_4 rfl rfl ?_
  refine r_getI (pc := 5) C fd_X6_196 rfl dX6_jumps_5 h (fun v2 h => ?_)
  refine r_ldc (pc := 8) C q1518 dX6_jumps_8 ?_
  refine r_iload_n (pc := 10) (i := 1) C dX6_jumps_10 rfl rfl ?_
  refine r_imul (pc := 11) C dX6_jumps_11 ?_
  refine r_aload_n (pc := 12) (i := 0) C dX6_jumps_12 rfl rfl ?_
  refine r_getI (pc := 13) C fd_X6_189 rfl dX6_jumps_13 h (fun v3 h => ?_)
  refine r_iadd (pc := 16) C dX6_jumps_16 ?_
  refine r_iast (pc := 17) C dX6_jumps_17 h (fun σ4 h => ?_)
  refine r_aload_n (pc := 18) (i := 0) C dX6_jumps_18 rfl rfl ?_
  refine r_aload_n (pc := 19) (i := 0) C dX6_jumps_19 rfl rfl ?_
  refine r_getI (pc := 20) C fd_X6_196 rfl dX6_jumps_20 h (fun v5 h => ?_)
  refine r_iconst (pc := 23) (v := 1) C dX6_jumps_23 (by decide) ?_
  refine r_iadd (pc := 24) C dX6_jumps_24 ?_
  refine r_putI (pc := 25) C fd_X6_196 ft_X6_14 dX6_jumps_25 h (fun σ6 h => ?_)
  refine r_aload_n (pc := 28) (i := 0) C dX6_jumps_28 rfl rfl ?_
  refine r_iload_n (pc := 29) (i := 1) C dX6_jumps_29 rfl rfl ?_
  refine r_iconst (pc := 30) (v := 0) C dX6_jumps_30 (by decide) ?_
  refine r_callVV (pc := 31) (As := [.int x1, .int 0]) (st := []) C cs_X6_202_X6_notes h (fun _ e => w_X6_notes (Nat.le_refl 0) e) (fun _ e => t_X6_notes e) (Nat.le_trans (Nat.le_of_ble_eq_true rfl) hd) (Nat.le_of_ble_eq_true rfl) dX6_jumps_31 (fun σ7 h => ?_)
  refine r_aload_n (pc := 34) (i := 0) C dX6_jumps_34 rfl rfl ?_
  refine r_aload_n (pc := 35) (i := 0) C dX6_jumps_35 rfl rfl ?_
  refine r_getI (pc := 36) C fd_X6_166 rfl dX6_jumps_36 h (fun v8 h => ?_)
  refine r_iconst (pc := 39) (v := 1) C dX6_jumps_39 (by decide) ?_
  refine r_iadd (pc := 40) C dX6_jumps_40 ?_
  refine r_putI (pc := 41) C fd_X6_166 ft_X6_8 dX6_jumps_41 h (fun σ9 h => ?_)
  exact r_vret (pc := 44) C rfl dX6_jumps_44 h E
theorem t_X6_jumps {F : Nat} {σ : MM} {a0 : Nat} {x1 : Int32} {r : MM} (h : g_X6_jumps F σ a0 x1 = some r) : mT σ a0 = (5, 62) := by
  unfold g_X6_jumps at h
  exact (r_ck h).1
