set_option maxRecDepth 100000
def g_X0_person (F : Nat) (σ : MM) (a0 : Nat) (x1 : Int32) (x2 : Int32) (x3 : Int32) : Option (Int32 × MM) := if mT σ a0 = (0, 22) then (bq (g_X0_in F σ x1 10) fun v2 σ1 => if v2 = 0 then (some (0, σ1)) else (bq (g_X0_in F σ1 x2 10) fun v4 σ3 => if v4 = 0 then (some (0, σ3)) else (bq (g_X0_in F σ3 x3 10) fun v6 σ5 => if v6 = 0 then (some (0, σ5)) else ((gI σ5 a0 0 22 2).bind fun v7 => (pI σ5 a0 0 22 2 ((v7 ||| ((1 : Int32) <<< (x1 &&& 31))))).bind fun σ8 => (gP σ8 a0 0 22 0).bind fun p9 => (sI σ8 p9 x1 x2).bind fun σ10 => (gP σ10 a0 0 22 1).bind fun p11 => (sI σ10 p11 x1 x3).bind fun σ12 => some (1, σ12))))) else none
theorem w_X0_person {B F : Nat} {d : Nat} {σ : MM} {a0 : Nat} {x1 : Int32} {x2 : Int32} {x3 : Int32} {rf : Int32} {σf : MM} (hd : 1 ≤ d) (h : g_X0_person F σ a0 x1 x2 x3 = some (rf, σf)) : xMA B yX0_person cX0_person 4 (some .boolean) d 0 0 [rv B a0, .int x1, .int x2, .int x3] σ (some (.int rf)) σf := by
  refine xMA.of (by decide +kernel) (Nat.le_of_ble_eq_true rfl) (cat_rv (cat_int (cat_int (cat_int cat_nil)))) (fun G C E => ?_)
  unfold g_X0_person at h
  obtain ⟨-, h⟩ := r_ck h
  refine r_iload_n (pc := 0) (i := 1) C dX0_person_0 rfl rfl ?_
  refine r_bipush (pc := 1) (v := 10) C dX0_person_1 (by decide) ?_
  refine r_callSI (pc := 3) (As := [.int x1, .int 10]) (st := []) C cs_X0_15_X0_in h (fun _ _ e => w_X0_in (Nat.le_refl 0) e) (Nat.le_trans (Nat.le_of_ble_eq_true rfl) hd) (Nat.le_of_ble_eq_true rfl) dX0_person_3 (fun v2 σ1 h => ?_)
  refine r_ifeq (pc := 6) (tgt := 27) C dX0_person_6 (by decide) h (fun h => ?_) (fun h => ?_)
  · refine r_iconst (pc := 27) (v := 0) C dX0_person_27 (by decide) ?_
    exact r_zretL (pc := 28) C rfl dX0_person_28 (Or.inl rfl) h E
  · refine r_iload_n (pc := 9) (i := 2) C dX0_person_9 rfl rfl ?_
    refine r_bipush (pc := 10) (v := 10) C dX0_person_10 (by decide) ?_
    refine r_callSI (pc := 12) (As := [.int x2, .int 10]) (st := []) C cs_X0_15_X0_in h (fun _ _ e => w_X0_in (Nat.le_refl 0) e) (Nat.le_trans (Nat.le_of_ble_eq_true rfl) hd) (Nat.le_of_ble_eq_true rfl) dX0_person_12 (fun v4 σ3 h => ?_)
    refine r_ifeq (pc := 15) (tgt := 27) C dX0_person_15 (by decide) h (fun h => ?_) (fun h => ?_)
    · refine r_iconst (pc := 27) (v := 0) C dX0_person_27 (by decide) ?_
      exact r_zretL (pc := 28) C rfl dX0_person_28 (Or.inl rfl) h E
    · refine r_iload_n (pc := 18) (i := 3) C dX0_person_18 rfl rfl ?_
      refine r_bipush (pc := 19) (v := 10) C dX0_person_19 (by decide) ?_
      refine r_callSI (pc := 21) (As := [.int x3, .int 10]) (st := []) C cs_X0_15_X0_in h (fun _ _ e => w_X0_in (Nat.le_refl 0) e) (Nat.le_trans (Nat.le_of_ble_eq_true rfl) hd) (Nat.le_of_ble_eq_true rfl) dX0_person_21 (fun v6 σ5 h => ?_)
      refine r_ifne (pc := 24) (tgt := 29) C dX0_person_24 (by decide) h (fun h => ?_) (fun h => ?_)
      · refine r_aload_n (pc := 29) (i := 0) C dX0_person_29 rfl rfl ?_
        refine r_dup (pc := 30) C dX0_person_30 ?_
        refine r_getI (pc := 31) C fd_X0_19 rfl dX0_person_31 h (fun v7 h => ?_)
        refine r_iconst (pc := 34) (v := 1) C dX0_person_34 (by decide) ?_
        refine r_iload_n (pc := 35) (i := 1) C dX0_person_35 rfl rfl ?_
        refine r_ishl (pc := 36) C dX0_person_36 ?_
        refine r_ior (pc := 37) C dX0_person_37 ?_
        refine r_putI (pc := 38) C fd_X0_19 ft_X0_2 dX0_person_38 h (fun σ8 h => ?_)
        refine r_aload_n (pc := 41) (i := 0) C dX0_person_41 rfl rfl ?_
        refine r_getP (pc := 42) C fd_X0_26 rfl dX0_person_42 h (fun p9 h => ?_)
        refine r_iload_n (pc := 45) (i := 1) C dX0_person_45 rfl rfl ?_
        refine r_iload_n (pc := 46) (i := 2) C dX0_person_46 rfl rfl ?_
        refine r_iast (pc := 47) C dX0_person_47 h (fun σ10 h => ?_)
        refine r_aload_n (pc := 48) (i := 0) C dX0_person_48 rfl rfl ?_
        refine r_getP (pc := 49) C fd_X0_34 rfl dX0_person_49 h (fun p11 h => ?_)
        refine r_iload_n (pc := 52) (i := 1) C dX0_person_52 rfl rfl ?_
        refine r_iload_n (pc := 53) (i := 3) C dX0_person_53 rfl rfl ?_
        refine r_iast (pc := 54) C dX0_person_54 h (fun σ12 h => ?_)
        refine r_iconst (pc := 55) (v := 1) C dX0_person_55 (by decide) ?_
        exact r_zretL (pc := 56) C rfl dX0_person_56 (Or.inr rfl) h E
      · refine r_iconst (pc := 27) (v := 0) C dX0_person_27 (by decide) ?_
        exact r_zretL (pc := 28) C rfl dX0_person_28 (Or.inl rfl) h E
theorem t_X0_person {F : Nat} {σ : MM} {a0 : Nat} {x1 : Int32} {x2 : Int32} {x3 : Int32} {r : Int32 × MM} (h : g_X0_person F σ a0 x1 x2 x3 = some r) : mT σ a0 = (0, 22) := by
  unfold g_X0_person at h
  exact (r_ck h).1
theorem cs_X0_123_X0_isTold : xCV RX0 123 yX0_isTold cX0_isTold 2 (some .boolean) 0 22 1 := ⟨by decide, by decide, _, rfl, yd_X0_isTold, Or.inl ⟨rfl, lw_V q393 q395 qs0 q116 q396⟩⟩
theorem cs_X0_127_X0_within : xCS RX0 127 yX0_within cX0_within 3 (some .boolean) 3 := ⟨by decide, yd_X0_within, Or.inl (lw_S q400 q401 q116 q402)⟩
theorem fd_X0_66 : xFg RX0 66 0 22 4 := ⟨_, rfl, rfl, by decide, by decide, in_X0, Or.inl q316⟩
theorem ft_X0_4 : xFt 0 4 (.object "OneCoin$Duchy") true := ⟨_, rfl, by decide +kernel, rfl, rfl⟩
theorem fd_X0_131 : xFg RX0 131 2 16 0 := ⟨_, rfl, rfl, by decide, by decide, in_X3, Or.inr ⟨_, in_nest q217 rfl⟩⟩
theorem fd_X0_134 : xFg RX0 134 3 1 0 := ⟨_, rfl, rfl, by decide, by decide, in_X4, Or.inr ⟨_, in_nest q211 rfl⟩⟩
def g_X0_debt (F : Nat) (σ : MM) (a0 : Nat) (x1 : Int32) (x2 : Int32) (x3 : Int32) : Option (Int32 × MM) := if mT σ a0 = (0, 22) then (bq (g_X0_isTold F σ a0 x1) fun v2 σ1 => if v2 = 0 then (some (0, σ1)) else (bq (g_X0_isTold F σ1 a0 x2) fun v4 σ3 => if v4 = 0 then (some (0, σ3)) else (if x1 = x2 then (some (0, σ3)) else (bq (g_X0_within F σ3 x3 0 99) fun v6 σ5 => if v6 = 0 then (some (0, σ5)) else ((gP σ5 a0 0 22 4).bind fun p7 => (gP σ5 p7 2 16 0).bind fun p8 => (gP σ5 p8 3 1 0).bind fun p9 => (aP σ5 p9 22 x1).bind fun p10 => (sI σ5 p10 x2 x3).bind fun σ11 => some (1, σ11)))))) else none
theorem w_X0_debt {B F : Nat} {d : Nat} {σ : MM} {a0 : Nat} {x1 : Int32} {x2 : Int32} {x3 : Int32} {rf : Int32} {σf : MM} (hd : 2 ≤ d) (h : g_X0_debt F σ a0 x1 x2 x3 = some (rf, σf)) : xMA B yX0_debt cX0_debt 4 (some .boolean) d 0 0 [rv B a0, .int x1, .int x2, .int x3] σ (some (.int rf)) σf := by
  refine xMA.of (by decide +kernel) (Nat.le_of_ble_eq_true rfl) (cat_rv (cat_int (cat_int (cat_int cat_nil)))) (fun G C E => ?_)
  unfold g_X0_debt at h
  obtain ⟨-, h⟩ := r_ck h
  refine r_aload_n (pc := 0) (i := 0) C dX0_debt_0 rfl rfl ?_
  refine r_iload_n (pc := 1) (i := 1) C dX0_debt_1 rfl rfl ?_
  refine r_callVI (pc := 2) (As := [.int x1]) (st := []) C cs_X0_123_X0_isTold h (fun _ _ e => w_X0_isTold (Nat.le_refl 1) e) (fun _ _ e => t_X0_isTold e) (Nat.le_trans (Nat.le_of_ble_eq_true rfl) hd) (Nat.le_of_ble_eq_true rfl) dX0_debt_2 (fun v2 σ1 h => ?_)
  refine r_ifeq (pc := 5) (tgt := 31) C dX0_debt_5 (by decide) h (fun h => ?_) (fun h => ?_)
  · refine r_iconst (pc := 31) (v := 0) C dX0_debt_31 (by decide) ?_
    exact r_zretL (pc := 32) C rfl dX0_debt_32 (Or.inl rfl) h E
  · refine r_aload_n (pc := 8) (i := 0) C dX0_debt_8 rfl rfl ?_
    refine r_iload_n (pc := 9) (i := 2) C dX0_debt_9 rfl rfl ?_
    refine r_callVI (pc := 10) (As := [.int x2]) (st := []) C cs_X0_123_X0_isTold h (fun _ _ e => w_X0_isTold (Nat.le_refl 1) e) (fun _ _ e => t_X0_isTold e) (Nat.le_trans (Nat.le_of_ble_eq_true rfl) hd) (Nat.le_of_ble_eq_true rfl) dX0_debt_10 (fun v4 σ3 h => ?_)
    refine r_ifeq (pc := 13) (tgt := 31) C dX0_debt_13 (by decide) h (fun h => ?_) (fun h => ?_)
    · refine r_iconst (pc := 31) (v := 0) C dX0_debt_31 (by decide) ?_
      exact r_zretL (pc := 32) C rfl dX0_debt_32 (Or.inl rfl) h E
    · refine r_iload_n (pc := 16) (i := 1) C dX0_debt_16 rfl rfl ?_
      refine r_iload_n (pc := 17) (i := 2) C dX0_debt_17 rfl rfl ?_
      refine r_icmpeq (pc := 18) (tgt := 31) C dX0_debt_18 (by decide) h (fun h => ?_) (fun h => ?_)
      · refine r_iconst (pc := 31) (v := 0) C dX0_debt_31 (by decide) ?_
        exact r_zretL (pc := 32) C rfl dX0_debt_32 (Or.inl rfl) h E
      · refine r_iload_n (pc := 21) (i := 3) C dX0_debt_21 rfl rfl ?_
        refine r_iconst (pc := 22) (v := 0) C dX0_debt_22 (by decide) ?_
        refine r_bipush (pc := 23) (v := 99) C dX0_debt_23 (by decide) ?_
        refine r_callSI (pc := 25) (As := [.int x3, .int 0, .int 99]) (st := []) C cs_X0_127_X0_within h (fun _ _ e => w_X0_within (Nat.le_refl 0) e) (Nat.le_trans (Nat.le_of_ble_eq_true rfl) hd) (Nat.le_of_ble_eq_true rfl) dX0_debt_25 (fun v6 σ5 h => ?_)
        refine r_ifne (pc := 28) (tgt := 33) C dX0_debt_28 (by decide) h (fun h => ?_) (fun h => ?_)
        · refine r_aload_n (pc := 33) (i := 0) C dX0_debt_33 rfl rfl ?_
          refine r_getP (pc := 34) C fd_X0_66 rfl dX0_debt_34 h (fun p7 h => ?_)
          refine r_getP (pc := 37) C fd_X0_131 rfl dX0_debt_37 h (fun p8 h => ?_)
          refine r_getP (pc := 40) C fd_X0_134 rfl dX0_debt_40 h (fun p9 h => ?_)
          refine r_iload_n (pc := 43) (i := 1) C dX0_debt_43 rfl rfl ?_
          refine r_aald (pc := 44) 0 (by decide) C dX0_debt_44 h (fun p10 h => ?_)
          refine r_iload_n (pc := 45) (i := 2) C dX0_debt_45 rfl rfl ?_
          refine r_iload_n (pc := 46) (i := 3) C dX0_debt_46 rfl rfl ?_
          refine r_iast (pc := 47) C dX0_debt_47 h (fun σ11 h => ?_)
          refine r_iconst (pc := 48) (v := 1) C dX0_debt_48 (by decide) ?_
          exact r_zretL (pc := 49) C rfl dX0_debt_49 (Or.inr rfl) h E
        · refine r_iconst (pc := 31) (v := 0) C dX0_debt_31 (by decide) ?_
          exact r_zretL (pc := 32) C rfl dX0_debt_32 (Or.inl rfl) h E
theorem t_X0_debt {F : Nat} {σ : MM} {a0 : Nat} {x1 : Int32} {x2 : Int32} {x3 : Int32} {r : Int32 × MM} (h : g_X0_debt F σ a0 x1 x2 x3 = some r) : mT σ a0 = (0, 22) := by
  unfold g_X0_debt at h
  exact (r_ck h).1
theorem fd_X0_137 : xFg RX0 137 2 16 3 := ⟨_, rfl, rfl, by decide, by decide, in_X3, Or.inr ⟨_, in_nest q222 rfl⟩⟩
theorem fd_X0_140 : xFg RX0 140 2 16 5 := ⟨_, rfl, rfl, by decide, by decide, in_X3, Or.inr ⟨_, in_nest q225 rfl⟩⟩
def g_X0_coin (F : Nat) (σ : MM) (a0 : Nat) (x1 : Int32) : Option (Int32 × MM) := if mT σ a0 = (0, 22) then (bq (g_X0_isTold F σ a0 x1) fun v2 σ1 => if v2 = 0 then (some (0, σ1)) else ((gP σ1 a0 0 22 4).bind fun p3 => (pI σ1 p3 2 16 3 x1).bind fun σ4 => (gP σ4 a0 0 22 4).bind fun p5 => (pI σ4 p5 2 16 5 ((-1))).bind fun σ6 => some (1, σ6))) else none
theorem w_X0_coin {B F : Nat} {d : Nat} {σ : MM} {a0 : Nat} {x1 : Int32} {rf : Int32} {σf : MM} (hd : 2 ≤ d) (h : g_X0_coin F σ a0 x1 = some (rf, σf)) : xMA B yX0_coin cX0_coin 2 (some .boolean) d 0 0 [rv B a0, .int x1] σ (some (.int rf)) σf := by
  refine xMA.of (by decide +kernel) (Nat.le_of_ble_eq_true rfl) (cat_rv (cat_int cat_nil)) (fun G C E => ?_)
  unfold g_X0_coin at h
  obtain ⟨-, h⟩ := r_ck h
  refine r_aload_n (pc := 0) (i := 0) C dX0_coin_0 rfl rfl ?_
  refine r_iload_n (pc := 1) (i := 1) C dX0_coin_1 rfl rfl ?_
  refine r_callVI (pc := 2) (As := [.int x1]) (st := []) C cs_X0_123_X0_isTold h (fun _ _ e => w_X0_isTold (Nat.le_refl 1) e) (fun _ _ e => t_X0_isTold e) (Nat.le_trans (Nat.le_of_ble_eq_true rfl) hd) (Nat.le_of_ble_eq_true rfl) dX0_coin_2 (fun v2 σ1 h => ?_)
  refine r_ifne (pc := 5) (tgt := 10) C dX0_coin_5 (by decide) h (fun h => ?_) (fun h => ?_)
  · refine r_aload_n (pc := 10) (i := 0) C dX0_coin_10 rfl rfl ?_
    refine r_getP (pc := 11) C fd_X0_66 rfl dX0_coin_11 h (fun p3 h => ?_)
    refine r_iload_n (pc := 14) (i := 1) C dX0_coin_14 rfl rfl ?_
    refine r_putI (pc := 15) C fd_X0_137 ft_X3_3 dX0_coin_15 h (fun σ4 h => ?_)
    refine r_aload_n (pc := 18) (i := 0) C dX0_coin_18 rfl rfl ?_
    refine r_getP (pc := 19) C fd_X0_66 rfl dX0_coin_19 h (fun p5 h => ?_)
    refine r_iconst (pc := 22) (v := (-1)) C dX0_coin_22 (by decide) ?_
    refine r_putI (pc := 23) C fd_X0_140 ft_X3_5 dX0_coin_23 h (fun σ6 h => ?_)
    refine r_iconst (pc := 26) (v := 1) C dX0_coin_26 (by decide) ?_
    exact r_zretL (pc := 27) C rfl dX0_coin_27 (Or.inr rfl) h E
  · refine r_iconst (pc := 8) (v := 0) C dX0_coin_8 (by decide) ?_
    exact r_zretL (pc := 9) C rfl dX0_coin_9 (Or.inl rfl) h E
theorem t_X0_coin {F : Nat} {σ : MM} {a0 : Nat} {x1 : Int32} {r : Int32 × MM} (h : g_X0_coin F σ a0 x1 = some r) : mT σ a0 = (0, 22) := by
  unfold g_X0_coin at h
  exact (r_ck h).1
theorem fd_X0_76 : xFg RX0 76 0 22 7 := ⟨_, rfl, rfl, by decide, by decide, in_X0, Or.inl q321⟩
theorem ft_X0_7 : xFt 0 7 (.array .byte) true := ⟨_, rfl, by decide +kernel, rfl, rfl⟩
theorem fd_X0_143 : xFg RX0 143 0 22 9 := ⟨_, rfl, rfl, by decide, by decide, in_X0, Or.inl q324⟩
theorem ft_X0_9 : xFt 0 9 .int false := ⟨_, rfl, by decide +kernel, rfl, rfl⟩
def l_X0_push_3 (K : MM → Option (MM)) (F : Nat) (a0 : Nat) (x1 : Int32) : Nat → Int32 → MM → Option (MM)
  | 0, _, _ => none
  | f + 1, z2, σ => if z2 < 0 then (K σ) else ((gP σ a0 0 22 7).bind fun p1 => (gI σ a0 0 22 9).bind fun v2 => (sB σ p1 v2 (((x1 >>> (z2 &&& 31))).toInt8.toInt32)).bind fun σ3 => (gI σ3 a0 0 22 9).bind fun v4 => (pI σ3 a0 0 22 9 ((v4 + 1))).bind fun σ5 => l_X0_push_3 K F a0 x1 f ((z2 + (-8))) σ5)
def g_X0_push (F : Nat) (σ : MM) (a0 : Nat) (x1 : Int32) : Option (MM) := if mT σ a0 = (0, 22) then (l_X0_push_3 (fun (σ6 : MM) => some σ6) F a0 x1 F 24 σ) else none
theorem wl_X0_push_3 {B : Nat} {G : XG} {d : Nat} {σf : MM} (hd : 0 ≤ d) (C : xC B G yX0_push cX0_push 3 none d 0 0) (E : xEnd B G none σf 0 0) {K : MM → Option (MM)} {F : Nat} {a0 : Nat} {x1 : Int32} (hK : ∀ (σ : MM), K σ = some σf → xV B G 0 0 σ 36 [] []) : ∀ (f : Nat) (z2 : Int32) (σ : MM), l_X0_push_3 K F a0 x1 f z2 σ = some σf → xV B G 0 0 σ 3 [(0, rv B a0), (1, .int x1), (2, .int z2)] [] := by
  intro f
  induction f with
  | zero =>
    intro z2 σ h
    have h : none = some σf := h
    cases h
  | succ f ih =>
    intro z2 σ h
    rw [l_X0_push_3.eq_2] at h
    refine r_iload_n (pc := 3) (i := 2) C dX0_push_3 rfl rfl ?_
    refine r_iflt (pc := 4) (tgt := 36) C dX0_push_4 (by decide) h (fun h => ?_) (fun h => ?_)
    · refine r_pick (lv' := []) [] rfl ?_
      exact hK _ h
    · refine r_aload_n (pc := 7) (i := 0) C dX0_push_7 rfl rfl ?_
      refine r_getP (pc := 8) C fd_X0_76 rfl dX0_push_8 h (fun p1 h => ?_)
      refine r_aload_n (pc := 11) (i := 0) C dX0_push_11 rfl rfl ?_
      refine r_getI (pc := 12) C fd_X0_143 rfl dX0_push_12 h (fun v2 h => ?_)
      refine r_iload_n (pc := 15) (i := 1) C dX0_push_15 rfl rfl ?_
      refine r_iload_n (pc := 16) (i := 2) C dX0_push_16 rfl rfl ?_
      refine r_ishr (pc := 17) C dX0_push_17 ?_
      refine r_i2b (pc := 18) C dX0_push_18 ?_
      refine r_bast (pc := 19) C dX0_push_19 h (fun σ3 h => ?_)
      refine r_aload_n (pc := 20) (i := 0) C dX0_push_20 rfl rfl ?_
      refine r_dup (pc := 21) C dX0_push_21 ?_
      refine r_getI (pc := 22) C fd_X0_143 rfl dX0_push_22 h (fun v4 h => ?_)
      refine r_iconst (pc := 25) (v := 1) C dX0_push_25 (by decide) ?_
      refine r_iadd (pc := 26) C dX0_push_26 ?_
      refine r_putI (pc := 27) C fd_X0_143 ft_X0_9 dX0_push_27 h (fun σ5 h => ?_)
      refine r_iinc (pc := 30) (i := 2) (v := (z2 + (-8))) C dX0_push_30 rfl rfl (by decide) ?_
      refine r_goto (pc := 33) (tgt := 3) C dX0_push_33 (by decide) ?_
      refine r_pick (lv' := [(0, rv B a0), (1, .int x1), (2, .int (z2 + (-8)))]) [0, 1, 2] rfl ?_
      exact ih _ _ h
theorem w_X0_push {B F : Nat} {d : Nat} {σ : MM} {a0 : Nat} {x1 : Int32} {σf : MM} (hd : 0 ≤ d) (h : g_X0_push F σ a0 x1 = some σf) : xMA B yX0_push cX0_push 3 none d 0 0 [rv B a0, .int x1] σ none σf := by
  refine xMA.of (by decide +kernel) (Nat.le_of_ble_eq_true rfl) (cat_rv (cat_int cat_nil)) (fun G C E => ?_)
  unfold g_X0_push at h
  obtain ⟨-, h⟩ := r_ck h
  refine r_bipush (pc := 0) (v := 24) C dX0_push_0 (by decide) ?_
  refine r_istore_n (pc := 2) (i := 2) C dX0_push_2 rfl (by decide) ?_
  refine r_pick (lv' := [(0, rv B a0), (1, .int x1), (2, .int 24)]) [0, 1, 2] rfl ?_
  refine wl_X0_push_3 hd C E (fun  σ6 h => ?_) _ _ _ h
  exact r_vret (pc := 36) C rfl dX0_push_36 h E
theorem t_X0_push {F : Nat} {σ : MM} {a0 : Nat} {x1 : Int32} {r : MM} (h : g_X0_push F σ a0 x1 = some r) : mT σ a0 = (0, 22) := by
  unfold g_X0_push at h
  exact (r_ck h).1
theorem yd_X0_push : xYd yX0_push 1 := ⟨by decide +kernel, by decide +kernel, by decide +kernel⟩
theorem cs_X0_146_X0_push : xCV RX0 146 yX0_push cX0_push 3 none 0 22 1 := ⟨by decide, by decide, _, rfl, yd_X0_push, Or.inl ⟨rfl, lw_V q411 q413 qs1 q116 q414⟩⟩
def g_X0_feed (F : Nat) (σ : MM) (a0 : Nat) (x1 : Int32) (x2 : Int32) (x3 : Int32) (x4 : Int32) (x5 : Int32) : Option (Int32 × MM) := if mT σ a0 = (0, 22) then ((gI σ a0 0 22 9).bind fun v1 => if 260 < (v1 + 20) then (some ((-1), σ)) else ((g_X0_push F σ a0 x1).bind fun σ2 => (g_X0_push F σ2 a0 x2).bind fun σ3 => (g_X0_push F σ3 a0 x3).bind fun σ4 => (g_X0_push F σ4 a0 x4).bind fun σ5 => (g_X0_push F σ5 a0 x5).bind fun σ6 => (gI σ6 a0 0 22 9).bind fun v7 => some (v7, σ6))) else none
theorem w_X0_feed {B F : Nat} {d : Nat} {σ : MM} {a0 : Nat} {x1 : Int32} {x2 : Int32} {x3 : Int32} {x4 : Int32} {x5 : Int32} {rf : Int32} {σf : MM} (hd : 1 ≤ d) (h : g_X0_feed F σ a0 x1 x2 x3 x4 x5 = some (rf, σf)) : xMA B yX0_feed cX0_feed 6 (some .int) d 0 0 [rv B a0, .int x1, .int x2, .int x3, .int x4, .int x5] σ (some (.int rf)) σf := by
  refine xMA.of (by decide +kernel) (Nat.le_of_ble_eq_true rfl) (cat_rv (cat_int (cat_int (cat_int (cat_int (cat_int cat_nil)))))) (fun G C E => ?_)
  unfold g_X0_feed at h
  obtain ⟨-, h⟩ := r_ck h
  refine r_aload_n (pc := 0) (i := 0) C dX0_feed_0 rfl rfl ?_
  refine r_getI (pc := 1) C fd_X0_143 rfl dX0_feed_1 h (fun v1 h => ?_)
  refine r_bipush (pc := 4) (v := 20) C dX0_feed_4 (by decide) ?_
  refine r_iadd (pc := 6) C dX0_feed_6 ?_
  refine r_sipush (pc := 7) (v := 260) C dX0_feed_7 (by decide) ?_
  refine r_icmple (pc := 10) (tgt := 15) C dX0_feed_10 (by decide) h (fun h => ?_) (fun h => ?_)
  · refine r_aload_n (pc := 15) (i := 0) C dX0_feed_15 rfl rfl ?_
    refine r_iload_n (pc := 16) (i := 1) C dX0_feed_16 rfl rfl ?_
    refine r_callVV (pc := 17) (As := [.int x1]) (st := []) C cs_X0_146_X0_push h (fun _ e => w_X0_push (Nat.le_refl 0) e) (fun _ e => t_X0_push e) (Nat.le_trans (Nat.le_of_ble_eq_true rfl) hd) (Nat.le_of_ble_eq_true rfl) dX0_feed_17 (fun σ2 h => ?_)
    refine r_aload_n (pc := 20) (i := 0) C dX0_feed_20 rfl rfl ?_
    refine r_iload_n (pc := 21) (i := 2) C dX0_feed_21 rfl rfl ?_
    refine r_callVV (pc := 22) (As := [.int x2]) (st := []) C cs_X0_146_X0_push h (fun _ e => w_X0_push (Nat.le_refl 0) e) (fun _ e => t_X0_push e) (Nat.le_trans (Nat.le_of_ble_eq_true rfl) hd) (Nat.le_of_ble_eq_true rfl) dX0_feed_22 (fun σ3 h => ?_)
    refine r_aload_n (pc := 25) (i := 0) C dX0_feed_25 rfl rfl ?_
    refine r_iload_n (pc := 26) (i := 3) C dX0_feed_26 rfl rfl ?_
    refine r_callVV (pc := 27) (As := [.int x3]) (st := []) C cs_X0_146_X0_push h (fun _ e => w_X0_push (Nat.le_refl 0) e) (fun _ e => t_X0_push e) (Nat.le_trans (Nat.le_of_ble_eq_true rfl) hd) (Nat.le_of_ble_eq_true rfl) dX0_feed_27 (fun σ4 h => ?_)
    refine r_aload_n (pc := 30) (i := 0) C dX0_feed_30 rfl rfl ?_
    refine r_iload (pc := 31) (i := 4) C dX0_feed_31 rfl ?_
    refine r_callVV (pc := 33) (As := [.int x4]) (st := []) C cs_X0_146_X0_push h (fun _ e => w_X0_push (Nat.le_refl 0) e) (fun _ e => t_X0_push e) (Nat.le_trans (Nat.le_of_ble_eq_true rfl) hd) (Nat.le_of_ble_eq_true rfl) dX0_feed_33 (fun σ5 h => ?_)
    refine r_aload_n (pc := 36) (i := 0) C dX0_feed_36 rfl rfl ?_
    refine r_iload (pc := 37) (i := 5) C dX0_feed_37 rfl ?_
    refine r_callVV (pc := 39) (As := [.int x5]) (st := []) C cs_X0_146_X0_push h (fun _ e => w_X0_push (Nat.le_refl 0) e) (fun _ e => t_X0_push e) (Nat.le_trans (Nat.le_of_ble_eq_true rfl) hd) (Nat.le_of_ble_eq_true rfl) dX0_feed_39 (fun σ6 h => ?_)
    refine r_aload_n (pc := 42) (i := 0) C dX0_feed_42 rfl rfl ?_
    refine r_getI (pc := 43) C fd_X0_143 rfl dX0_feed_43 h (fun v7 h => ?_)
    exact r_iret (pc := 46) C rfl dX0_feed_46 h E
  · refine r_iconst (pc := 13) (v := (-1)) C dX0_feed_13 (by decide) ?_
    exact r_iret (pc := 14) C rfl dX0_feed_14 h E
theorem t_X0_feed {F : Nat} {σ : MM} {a0 : Nat} {x1 : Int32} {x2 : Int32} {x3 : Int32} {x4 : Int32} {x5 : Int32} {r : Int32 × MM} (h : g_X0_feed F σ a0 x1 x2 x3 x4 x5 = some r) : mT σ a0 = (0, 22) := by
  unfold g_X0_feed at h
  exact (r_ck h).1
theorem fd_X16_3_X17 : xFg RX16 3 13 8 4 := ⟨_, rfl, rfl, by decide, by decide, in_X17, Or.inl q707⟩
theorem ft_X17_4 : xFt 13 4 (.object "OneCoin") true := ⟨_, rfl, by decide +kernel, rfl, rfl⟩
theorem fc_X16_3_X17 : xFc RX16 3 13 4 := ⟨⟨_, rfl, rfl⟩, _, rfl, q707⟩
theorem fd_X16_15_X17 : xFg RX16 15 13 8 0 := ⟨_, rfl, rfl, by decide, by decide, in_X17, Or.inl q703⟩
theorem ft_X17_0 : xFt 13 0 .int true := ⟨_, rfl, by decide +kernel, rfl, rfl⟩
theorem fc_X16_15_X17 : xFc RX16 15 13 0 := ⟨⟨_, rfl, rfl⟩, _, rfl, q703⟩
def g_X16_init_X17 (F : Nat) (σ : MM) (a0 : Nat) (a1 : Nat) (x2 : Int32) : Option (MM) := if mT σ a0 = (13, 8) then ((pP σ a0 13 8 4 a1).bind fun σ1 => if (mT σ1 a0).1 ≠ 99 then ((pI σ1 a0 13 8 0 x2).bind fun σ3 => some σ3) else none) else none
theorem w_X16_init_X17 {B F : Nat} {d : Nat} {σ : MM} {a0 : Nat} {a1 : Nat} {x2 : Int32} {σf : MM} (hd : 1 ≤ d) (h : g_X16_init_X17 F σ a0 a1 x2 = some σf) : xMA B yX16_init cX16_init 3 none d 0 0 [rv B a0, rv B a1, .int x2] σ none σf := by
  refine xMA.of (by decide +kernel) (Nat.le_of_ble_eq_true rfl) (cat_rv (cat_rv (cat_int cat_nil))) (fun G C E => ?_)
  unfold g_X16_init_X17 at h
  obtain ⟨-, h⟩ := r_ck h
  refine r_aload_n (pc := 0) (i := 0) C dX16_init_0 rfl rfl ?_
  refine r_aload_n (pc := 1) (i := 1) C dX16_init_1 rfl rfl ?_
  refine r_putPF (pc := 2) C rfl fd_X16_3_X17 fc_X16_3_X17 ft_X17_4 (Or.inl ⟨_, rfl⟩) dX16_init_2 h (fun σ1 h => ?_)
  refine r_aload_n (pc := 5) (i := 0) C dX16_init_5 rfl rfl ?_
  refine r_objI (pc := 6) C q696 q148 q149 (Nat.le_trans (Nat.le_of_ble_eq_true rfl) hd) (Nat.le_of_ble_eq_true rfl) dX16_init_6 h (fun h => ?_)
  refine r_aload_n (pc := 9) (i := 0) C dX16_init_9 rfl rfl ?_
  refine r_iload_n (pc := 10) (i := 2) C dX16_init_10 rfl rfl ?_
  refine r_putIF (pc := 11) C rfl fd_X16_15_X17 fc_X16_15_X17 ft_X17_0 dX16_init_11 h (fun σ3 h => ?_)
  exact r_vret (pc := 14) C rfl dX16_init_14 h E
theorem t_X16_init_X17 {F : Nat} {σ : MM} {a0 : Nat} {a1 : Nat} {x2 : Int32} {r : MM} (h : g_X16_init_X17 F σ a0 a1 x2 = some r) : mT σ a0 = (13, 8) := by
  unfold g_X16_init_X17 at h
  exact (r_ck h).1
theorem fc_X4_11 : xFc RX4 11 3 0 := ⟨⟨_, rfl, rfl⟩, _, rfl, q207⟩
def g_X4_init (F : Nat) (σ : MM) (a0 : Nat) : Option (MM) := if mT σ a0 = (3, 1) then (if (mT σ a0).1 ≠ 99 then (nwG σ fun p2 σ3 => (pP σ3 a0 3 1 0 p2).bind fun σ4 => some σ4) else none) else none
theorem w_X4_init {B F : Nat} {d : Nat} {σ : MM} {a0 : Nat} {σf : MM} (hd : 1 ≤ d) (h : g_X4_init F σ a0 = some σf) : xMA B yX4_init cX4_init 1 none d 11 110 [rv B a0] σ none σf := by
  refine xMA.of (by decide +kernel) (Nat.le_of_ble_eq_true rfl) (cat_rv cat_nil) (fun G C E => ?_)
  unfold g_X4_init at h
  obtain ⟨-, h⟩ := r_ck h
  refine r_aload_n (pc := 0) (i := 0) C dX4_init_0 rfl rfl ?_
  refine r_objI (pc := 1) C q204 q148 q149 (Nat.le_trans (Nat.le_of_ble_eq_true rfl) hd) (Nat.le_of_ble_eq_true rfl) dX4_init_1 h (fun h => ?_)
  refine r_aload_n (pc := 4) (i := 0) C dX4_init_4 rfl rfl ?_
  refine r_bipush (pc := 5) (v := 10) C dX4_init_5 (by decide) ?_
  refine r_bipush (pc := 7) (v := 10) C dX4_init_7 (by decide) ?_
  refine r_multiB (pc := 9) C q205 q192 dX4_init_9 (Nat.le_of_ble_eq_true rfl) (Nat.le_of_ble_eq_true rfl) rfl rfl h (fun p2 σ3 h => ?_)
  refine r_putPF (pc := 13) C rfl fd_X4_11 fc_X4_11 ft_X4_0 (Or.inr ⟨_, rfl⟩) dX4_init_13 h (fun σ4 h => ?_)
  exact r_vret (pc := 16) C rfl dX4_init_16 h E
theorem t_X4_init {F : Nat} {σ : MM} {a0 : Nat} {r : MM} (h : g_X4_init F σ a0 = some r) : mT σ a0 = (3, 1) := by
  unfold g_X4_init at h
  exact (r_ck h).1
theorem fd_X17_3 : xFg RX17 3 13 8 7 := ⟨_, rfl, rfl, by decide, by decide, in_X17, Or.inl q702⟩
theorem ft_X17_7 : xFt 13 7 (.object "OneCoin") true := ⟨_, rfl, by decide +kernel, rfl, rfl⟩
theorem fc_X17_3 : xFc RX17 3 13 7 := ⟨⟨_, rfl, rfl⟩, _, rfl, q702⟩
theorem yd_X16_init : xYd yX16_init 2 := ⟨by decide +kernel, by decide +kernel, by decide +kernel⟩
theorem cs_X17_9_X16_init : xCI RX17 9 yX16_init cX16_init 3 2 := ⟨by decide, rfl, yd_X16_init, lw_meth q695, q138, q694, Or.inl q693⟩
theorem xcl_X4 : xCl 3 1 RX4 := classCl _ rfl rfl rfl (by decide) in_X4 tyX4_ok (by decide +kernel)
theorem yd_X4_init : xYd yX4_init 0 := ⟨by decide +kernel, by decide +kernel, by decide +kernel⟩
theorem cs_X17_17_X4_init : xCI RX17 17 yX4_init cX4_init 1 0 := ⟨by decide, rfl, yd_X4_init, lw_meth q203, q120, q202, Or.inr ⟨_, in_nest q698 rfl⟩⟩
theorem fd_X17_20 : xFg RX17 20 13 8 5 := ⟨_, rfl, rfl, by decide, by decide, in_X17, Or.inl q699⟩
theorem ft_X17_5 : xFt 13 5 (.object "OneCoin$Debts") true := ⟨_, rfl, by decide +kernel, rfl, rfl⟩
theorem fc_X17_20 : xFc RX17 20 13 5 := ⟨⟨_, rfl, rfl⟩, _, rfl, q699⟩
def g_X17_init (F : Nat) (σ : MM) (a0 : Nat) (a1 : Nat) (x2 : Int32) : Option (MM) := if mT σ a0 = (13, 8) then ((pP σ a0 13 8 7 a1).bind fun σ1 => (g_X16_init_X17 F σ1 a0 a1 x2).bind fun σ2 => nw σ2 (3, 1) fun p3 σ4 => (g_X4_init F σ4 p3).bind fun σ5 => (pP σ5 a0 13 8 5 p3).bind fun σ6 => some σ6) else none
theorem w_X17_init {B F : Nat} {d : Nat} {σ : MM} {a0 : Nat} {a1 : Nat} {x2 : Int32} {σf : MM} (hd : 2 ≤ d) (h : g_X17_init F σ a0 a1 x2 = some σf) : xMA B yX17_init cX17_init 3 none d 12 111 [rv B a0, rv B a1, .int x2] σ none σf := by
  refine xMA.of (by decide +kernel) (Nat.le_of_ble_eq_true rfl) (cat_rv (cat_rv (cat_int cat_nil))) (fun G C E => ?_)
  unfold g_X17_init at h
  obtain ⟨-, h⟩ := r_ck h
  refine r_aload_n (pc := 0) (i := 0) C dX17_init_0 rfl rfl ?_
  refine r_aload_n (pc := 1) (i := 1) C dX17_init_1 rfl rfl ?_
  refine r_putPF (pc := 2) C rfl fd_X17_3 fc_X17_3 ft_X17_7 (Or.inl ⟨_, rfl⟩) dX17_init_2 h (fun σ1 h => ?_)
  refine r_aload_n (pc := 5) (i := 0) C dX17_init_5 rfl rfl ?_
  refine r_aload_n (pc := 6) (i := 1) C dX17_init_6 rfl rfl ?_
  refine r_iload_n (pc := 7) (i := 2) C dX17_init_7 rfl rfl ?_
  refine r_callI (pc := 8) (As := [rv B a1, .int x2]) (st := []) C cs_X17_9_X16_init h (fun _ e => w_X16_init_X17 (Nat.le_refl 1) e) (fun _ e => by rw [t_X16_init_X17 e]; decide) (Nat.le_trans (Nat.le_of_ble_eq_true rfl) hd) (Nat.le_of_ble_eq_true rfl) (Nat.le_of_ble_eq_true rfl) rfl rfl (Nat.le_of_ble_eq_true rfl) dX17_init_8 (fun σ2 h => ?_)
  refine r_aload_n (pc := 11) (i := 0) C dX17_init_11 rfl rfl ?_
  refine r_newB (pc := 12) C xcl_X4 q697 q200 q120 dX17_init_12 (Nat.le_of_ble_eq_true rfl) (Nat.le_of_ble_eq_true rfl) rfl rfl h (fun p3 σ4 h => ?_)
  refine r_dup (pc := 15) C dX17_init_15 ?_
  refine r_callI (pc := 16) (As := []) (st := [rv B p3, rv B a0]) C cs_X17_17_X4_init h (fun _ e => w_X4_init (Nat.le_refl 1) e) (fun _ e => by rw [t_X4_init e]; decide) (Nat.le_trans (Nat.le_of_ble_eq_true rfl) hd) (Nat.le_of_ble_eq_true rfl) (Nat.le_of_ble_eq_true rfl) rfl rfl (Nat.le_of_ble_eq_true rfl) dX17_init_16 (fun σ5 h => ?_)
  refine r_putPF (pc := 19) C rfl fd_X17_20 fc_X17_20 ft_X17_5 (Or.inl ⟨_, rfl⟩) dX17_init_19 h (fun σ6 h => ?_)
  exact r_vret (pc := 22) C rfl dX17_init_22 h E
theorem t_X17_init {F : Nat} {σ : MM} {a0 : Nat} {a1 : Nat} {x2 : Int32} {r : MM} (h : g_X17_init F σ a0 a1 x2 = some r) : mT σ a0 = (13, 8) := by
  unfold g_X17_init at h
  exact (r_ck h).1
theorem fd_X16_19_X17 : xFg RX16 19 13 8 1 := ⟨_, rfl, rfl, by decide, by decide, in_X17, Or.inl q704⟩
theorem ft_X17_1 : xFt 13 1 .int false := ⟨_, rfl, by decide +kernel, rfl, rfl⟩
theorem fd_X16_22_X17 : xFg RX16 22 0 22 7 := ⟨_, rfl, rfl, by decide, by decide, in_X0, Or.inr ⟨_, in_nest q320 rfl⟩⟩
def g_X16_here_X17 (F : Nat) (σ : MM) (a0 : Nat) : Option (Int32 × MM) := if mT σ a0 = (13, 8) then ((gI σ a0 13 8 1).bind fun v1 => (gI σ a0 13 8 0).bind fun v2 => if v1 < v2 then ((gP σ a0 13 8 4).bind fun p3 => (gP σ p3 0 22 7).bind fun p4 => (gI σ a0 13 8 1).bind fun v5 => (aI σ p4 21 v5).bind fun v6 => some ((v6 &&& 255), σ)) else (some (0, σ))) else none
theorem w_X16_here_X17 {B F : Nat} {d : Nat} {σ : MM} {a0 : Nat} {rf : Int32} {σf : MM} (hd : 0 ≤ d) (h : g_X16_here_X17 F σ a0 = some (rf, σf)) : xMA B yX16_here cX16_here 1 (some .int) d 0 0 [rv B a0] σ (some (.int rf)) σf := by
  refine xMA.of (by decide +kernel) (Nat.le_of_ble_eq_true rfl) (cat_rv cat_nil) (fun G C E => ?_)
  unfold g_X16_here_X17 at h
  obtain ⟨-, h⟩ := r_ck h
  refine r_aload_n (pc := 0) (i := 0) C dX16_here_0 rfl rfl ?_
  refine r_getI (pc := 1) C fd_X16_19_X17 rfl dX16_here_1 h (fun v1 h => ?_)
  refine r_aload_n (pc := 4) (i := 0) C dX16_here_4 rfl rfl ?_
  refine r_getI (pc := 5) C fd_X16_15_X17 rfl dX16_here_5 h (fun v2 h => ?_)
  refine r_icmpge (pc := 8) (tgt := 30) C dX16_here_8 (by decide) h (fun h => ?_) (fun h => ?_)
  · refine r_iconst (pc := 30) (v := 0) C dX16_here_30 (by decide) ?_
    exact r_iret (pc := 31) C rfl dX16_here_31 h E
  · refine r_aload_n (pc := 11) (i := 0) C dX16_here_11 rfl rfl ?_
    refine r_getP (pc := 12) C fd_X16_3_X17 rfl dX16_here_12 h (fun p3 h => ?_)
    refine r_getP (pc := 15) C fd_X16_22_X17 rfl dX16_here_15 h (fun p4 h => ?_)
    refine r_aload_n (pc := 18) (i := 0) C dX16_here_18 rfl rfl ?_
    refine r_getI (pc := 19) C fd_X16_19_X17 rfl dX16_here_19 h (fun v5 h => ?_)
    refine r_bald (pc := 22) C dX16_here_22 h (fun v6 h => ?_)
    refine r_sipush (pc := 23) (v := 255) C dX16_here_23 (by decide) ?_
    refine r_iand (pc := 26) C dX16_here_26 ?_
    refine r_goto (pc := 27) (tgt := 31) C dX16_here_27 (by decide) ?_
    exact r_iret (pc := 31) C rfl dX16_here_31 h E
theorem t_X16_here_X17 {F : Nat} {σ : MM} {a0 : Nat} {r : Int32 × MM} (h : g_X16_here_X17 F σ a0 = some r) : mT σ a0 = (13, 8) := by
  unfold g_X16_here_X17 at h
  exact (r_ck h).1
theorem cu_X16_36_X16_here_X17 : xCU' RX16 36 yX16_here cX16_here 1 (some .int) 13 8 0 := ⟨by decide, by decide, _, ⟨"OneCoin$Scribe", "here", "()I"⟩, "OneCoin$Scribe", rfl, lw_U q745 q747 q748 q746 q138 q750, ⟨by decide +kernel, by decide +kernel, by decide +kernel⟩, rfl⟩
def g_X16_sees_X17 (F : Nat) (σ : MM) (a0 : Nat) (x1 : Int32) (x2 : Int32) : Option (Int32 × MM) := if mT σ a0 = (13, 8) then (bq (g_X16_here_X17 F σ a0) fun v2 σ1 => if v2 < x1 then (some (0, σ1)) else (bq (g_X16_here_X17 F σ1 a0) fun v4 σ3 => if x2 < v4 then (some (0, σ3)) else (some (1, σ3)))) else none
theorem w_X16_sees_X17 {B F : Nat} {d : Nat} {σ : MM} {a0 : Nat} {x1 : Int32} {x2 : Int32} {rf : Int32} {σf : MM} (hd : 1 ≤ d) (h : g_X16_sees_X17 F σ a0 x1 x2 = some (rf, σf)) : xMA B yX16_sees cX16_sees 3 (some .boolean) d 0 0 [rv B a0, .int x1, .int x2] σ (some (.int rf)) σf := by
  refine xMA.of (by decide +kernel) (Nat.le_of_ble_eq_true rfl) (cat_rv (cat_int (cat_int cat_nil))) (fun G C E => ?_)
  unfold g_X16_sees_X17 at h
  obtain ⟨-, h⟩ := r_ck h
  refine r_aload_n (pc := 0) (i := 0) C dX16_sees_0 rfl rfl ?_
  refine r_callUI (pc := 1) (As := []) (st := []) C h (fun _ _ e => ⟨_, _, _, _, _, _, Or.inr cu_X16_36_X16_here_X17, t_X16_here_X17 e, w_X16_here_X17 (Nat.le_refl 0) e⟩) (Nat.le_trans (Nat.le_of_ble_eq_true rfl) hd) (Nat.le_of_ble_eq_true rfl) dX16_sees_1 (fun v2 σ1 h => ?_)
  refine r_iload_n (pc := 4) (i := 1) C dX16_sees_4 rfl rfl ?_
  refine r_icmplt (pc := 5) (tgt := 20) C dX16_sees_5 (by decide) h (fun h => ?_) (fun h => ?_)
  · refine r_iconst (pc := 20) (v := 0) C dX16_sees_20 (by decide) ?_
    exact r_zretL (pc := 21) C rfl dX16_sees_21 (Or.inl rfl) h E
  · refine r_aload_n (pc := 8) (i := 0) C dX16_sees_8 rfl rfl ?_
    refine r_callUI (pc := 9) (As := []) (st := []) C h (fun _ _ e => ⟨_, _, _, _, _, _, Or.inr cu_X16_36_X16_here_X17, t_X16_here_X17 e, w_X16_here_X17 (Nat.le_refl 0) e⟩) (Nat.le_trans (Nat.le_of_ble_eq_true rfl) hd) (Nat.le_of_ble_eq_true rfl) dX16_sees_9 (fun v4 σ3 h => ?_)
    refine r_iload_n (pc := 12) (i := 2) C dX16_sees_12 rfl rfl ?_
    refine r_icmpgt (pc := 13) (tgt := 20) C dX16_sees_13 (by decide) h (fun h => ?_) (fun h => ?_)
    · refine r_iconst (pc := 20) (v := 0) C dX16_sees_20 (by decide) ?_
      exact r_zretL (pc := 21) C rfl dX16_sees_21 (Or.inl rfl) h E
    · refine r_iconst (pc := 16) (v := 1) C dX16_sees_16 (by decide) ?_
      refine r_goto (pc := 17) (tgt := 21) C dX16_sees_17 (by decide) ?_
      exact r_zretL (pc := 21) C rfl dX16_sees_21 (Or.inr rfl) h E
theorem t_X16_sees_X17 {F : Nat} {σ : MM} {a0 : Nat} {x1 : Int32} {x2 : Int32} {r : Int32 × MM} (h : g_X16_sees_X17 F σ a0 x1 x2 = some r) : mT σ a0 = (13, 8) := by
  unfold g_X16_sees_X17 at h
  exact (r_ck h).1
theorem cu_X16_40_X16_sees_X17 : xCU' RX16 40 yX16_sees cX16_sees 3 (some .boolean) 13 8 2 := ⟨by decide, by decide, _, ⟨"OneCoin$Scribe", "sees", "(II)Z"⟩, "OneCoin$Scribe", rfl, lw_U q739 q741 q742 q740 q138 q744, ⟨by decide +kernel, by decide +kernel, by decide +kernel⟩, rfl⟩
def g_X16_seesPerson_X17 (F : Nat) (σ : MM) (a0 : Nat) : Option (Int32 × MM) := if mT σ a0 = (13, 8) then (bq (g_X16_sees_X17 F σ a0 97 106) fun v2 σ1 => (rz v2).bind fun u => some (u, σ1)) else none
theorem w_X16_seesPerson_X17 {B F : Nat} {d : Nat} {σ : MM} {a0 : Nat} {rf : Int32} {σf : MM} (hd : 2 ≤ d) (h : g_X16_seesPerson_X17 F σ a0 = some (rf, σf)) : xMA B yX16_seesPerson cX16_seesPerson 1 (some .boolean) d 0 0 [rv B a0] σ (some (.int rf)) σf := by
  refine xMA.of (by decide +kernel) (Nat.le_of_ble_eq_true rfl) (cat_rv cat_nil) (fun G C E => ?_)
  unfold g_X16_seesPerson_X17 at h
  obtain ⟨-, h⟩ := r_ck h
  refine r_aload_n (pc := 0) (i := 0) C dX16_seesPerson_0 rfl rfl ?_
  refine r_bipush (pc := 1) (v := 97) C dX16_seesPerson_1 (by decide) ?_
  refine r_bipush (pc := 3) (v := 106) C dX16_seesPerson_3 (by decide) ?_
  refine r_callUI (pc := 5) (As := [.int 97, .int 106]) (st := []) C h (fun _ _ e => ⟨_, _, _, _, _, _, Or.inr cu_X16_40_X16_sees_X17, t_X16_sees_X17 e, w_X16_sees_X17 (Nat.le_refl 1) e⟩) (Nat.le_trans (Nat.le_of_ble_eq_true rfl) hd) (Nat.le_of_ble_eq_true rfl) dX16_seesPerson_5 (fun v2 σ1 h => ?_)
  exact r_zret (pc := 8) C rfl dX16_seesPerson_8 h E
theorem t_X16_seesPerson_X17 {F : Nat} {σ : MM} {a0 : Nat} {r : Int32 × MM} (h : g_X16_seesPerson_X17 F σ a0 = some r) : mT σ a0 = (13, 8) := by
  unfold g_X16_seesPerson_X17 at h
  exact (r_ck h).1
def g_X16_place_X17 (F : Nat) (σ : MM) (a0 : Nat) : Option (Int32 × MM) := if mT σ a0 = (13, 8) then ((gI σ a0 13 8 1).bind fun v1 => some (v1, σ)) else none
theorem w_X16_place_X17 {B F : Nat} {d : Nat} {σ : MM} {a0 : Nat} {rf : Int32} {σf : MM} (hd : 0 ≤ d) (h : g_X16_place_X17 F σ a0 = some (rf, σf)) : xMA B yX16_place cX16_place 1 (some .int) d 0 0 [rv B a0] σ (some (.int rf)) σf := by
  refine xMA.of (by decide +kernel) (Nat.le_of_ble_eq_true rfl) (cat_rv cat_nil) (fun G C E => ?_)
  unfold g_X16_place_X17 at h
  obtain ⟨-, h⟩ := r_ck h
  refine r_aload_n (pc := 0) (i := 0) C dX16_place_0 rfl rfl ?_
  refine r_getI (pc := 1) C fd_X16_19_X17 rfl dX16_place_1 h (fun v1 h => ?_)
  exact r_iret (pc := 4) C rfl dX16_place_4 h E
theorem t_X16_place_X17 {F : Nat} {σ : MM} {a0 : Nat} {r : Int32 × MM} (h : g_X16_place_X17 F σ a0 = some r) : mT σ a0 = (13, 8) := by
  unfold g_X16_place_X17 at h
  exact (r_ck h).1
theorem fd_X16_26_X17 : xFg RX16 26 13 8 2 := ⟨_, rfl, rfl, by decide, by decide, in_X17, Or.inl q705⟩
theorem ft_X17_2 : xFt 13 2 .int false := ⟨_, rfl, by decide +kernel, rfl, rfl⟩
theorem fd_X16_29_X17 : xFg RX16 29 13 8 3 := ⟨_, rfl, rfl, by decide, by decide, in_X17, Or.inl q706⟩
theorem ft_X17_3 : xFt 13 3 .int false := ⟨_, rfl, by decide +kernel, rfl, rfl⟩
def g_X16_bad_X17 (F : Nat) (σ : MM) (a0 : Nat) (x1 : Int32) (x2 : Int32) : Option (MM) := if mT σ a0 = (13, 8) then ((gI σ a0 13 8 2).bind fun v1 => if 0 < v1 then (some σ) else ((pI σ a0 13 8 2 x1).bind fun σ2 => (pI σ2 a0 13 8 3 x2).bind fun σ3 => some σ3)) else none
theorem w_X16_bad_X17 {B F : Nat} {d : Nat} {σ : MM} {a0 : Nat} {x1 : Int32} {x2 : Int32} {σf : MM} (hd : 0 ≤ d) (h : g_X16_bad_X17 F σ a0 x1 x2 = some σf) : xMA B yX16_bad cX16_bad 3 none d 0 0 [rv B a0, .int x1, .int x2] σ none σf := by
  refine xMA.of (by decide +kernel) (Nat.le_of_ble_eq_true rfl) (cat_rv (cat_int (cat_int cat_nil))) (fun G C E => ?_)
  unfold g_X16_bad_X17 at h
  obtain ⟨-, h⟩ := r_ck h
  refine r_aload_n (pc := 0) (i := 0) C dX16_bad_0 rfl rfl ?_
  refine r_getI (pc := 1) C fd_X16_26_X17 rfl dX16_bad_1 h (fun v1 h => ?_)
  refine r_ifle (pc := 4) (tgt := 8) C dX16_bad_4 (by decide) h (fun h => ?_) (fun h => ?_)
  · refine r_aload_n (pc := 8) (i := 0) C dX16_bad_8 rfl rfl ?_
    refine r_iload_n (pc := 9) (i := 1) C dX16_bad_9 rfl rfl ?_
    refine r_putI (pc := 10) C fd_X16_26_X17 ft_X17_2 dX16_bad_10 h (fun σ2 h => ?_)
    refine r_aload_n (pc := 13) (i := 0) C dX16_bad_13 rfl rfl ?_
    refine r_iload_n (pc := 14) (i := 2) C dX16_bad_14 rfl rfl ?_
    refine r_putI (pc := 15) C fd_X16_29_X17 ft_X17_3 dX16_bad_15 h (fun σ3 h => ?_)
    exact r_vret (pc := 18) C rfl dX16_bad_18 h E
  · exact r_vret (pc := 7) C rfl dX16_bad_7 h E
theorem t_X16_bad_X17 {F : Nat} {σ : MM} {a0 : Nat} {x1 : Int32} {x2 : Int32} {r : MM} (h : g_X16_bad_X17 F σ a0 x1 x2 = some r) : mT σ a0 = (13, 8) := by
  unfold g_X16_bad_X17 at h
  exact (r_ck h).1
theorem cu_X17_24_X16_here_X17 : xCU' RX17 24 yX16_here cX16_here 1 (some .int) 13 8 0 := ⟨by decide, by decide, _, ⟨"OneCoin$Clerk", "here", "()I"⟩, "OneCoin$Scribe", rfl, lw_U q767 q768 q770 q746 q138 q750, ⟨by decide +kernel, by decide +kernel, by decide +kernel⟩, rfl⟩
theorem cu_X17_28_X16_seesPerson_X17 : xCU' RX17 28 yX16_seesPerson cX16_seesPerson 1 (some .boolean) 13 8 0 := ⟨by decide, by decide, _, ⟨"OneCoin$Clerk", "seesPerson", "()Z"⟩, "OneCoin$Scribe", rfl, lw_U q733 q734 q736 q737 q138 q738, ⟨by decide +kernel, by decide +kernel, by decide +kernel⟩, rfl⟩
theorem cs_X17_39_X0_isTold : xCV RX17 39 yX0_isTold cX0_isTold 2 (some .boolean) 0 22 1 := ⟨by decide, by decide, _, rfl, yd_X0_isTold, Or.inr ⟨lw_meth q396, q116, _, in_nest q771 rfl, q395, qs0⟩⟩
theorem cu_X17_32_X16_place_X17 : xCU' RX17 32 yX16_place cX16_place 1 (some .int) 13 8 0 := ⟨by decide, by decide, _, ⟨"OneCoin$Clerk", "place", "()I"⟩, "OneCoin$Scribe", rfl, lw_U q751 q752 q754 q755 q138 q756, ⟨by decide +kernel, by decide +kernel, by decide +kernel⟩, rfl⟩
theorem cu_X17_35_X16_bad_X17 : xCU' RX17 35 yX16_bad cX16_bad 3 none 13 8 2 := ⟨by decide, by decide, _, ⟨"OneCoin$Clerk", "bad", "(II)V"⟩, "OneCoin$Scribe", rfl, lw_U q757 q758 q760 q761 q138 q762, ⟨by decide +kernel, by decide +kernel, by decide +kernel⟩, rfl⟩
def g_X17_person (F : Nat) (σ : MM) (a0 : Nat) : Option (Int32 × MM) := if mT σ a0 = (13, 8) then (bq (g_X16_here_X17 F σ a0) fun v2 σ1 => bq (g_X16_seesPerson_X17 F σ1 a0) fun v4 σ3 => if v4 = 0 then (bq (g_X16_place_X17 F σ3 a0) fun v12 σ11 => (g_X16_bad_X17 F σ11 a0 1 v12).bind fun σ13 => some ((v2 - 97), σ13)) else ((gP σ3 a0 13 8 7).bind fun p5 => bq (g_X0_isTold F σ3 p5 ((v2 - 97))) fun v7 σ6 => if v7 = 0 then (bq (g_X16_place_X17 F σ6 a0) fun v9 σ8 => (g_X16_bad_X17 F σ8 a0 7 v9).bind fun σ10 => some ((v2 - 97), σ10)) else (some ((v2 - 97), σ6)))) else none
theorem w_X17_person {B F : Nat} {d : Nat} {σ : MM} {a0 : Nat} {rf : Int32} {σf : MM} (hd : 3 ≤ d) (h : g_X17_person F σ a0 = some (rf, σf)) : xMA B yX17_person cX17_person 2 (some .int) d 0 0 [rv B a0] σ (some (.int rf)) σf := by
  refine xMA.of (by decide +kernel) (Nat.le_of_ble_eq_true rfl) (cat_rv cat_nil) (fun G C E => ?_)
  unfold g_X17_person at h
  obtain ⟨-, h⟩ := r_ck h
  refine r_aload_n (pc := 0) (i := 0) C dX17_person_0 rfl rfl ?_
  refine r_callUI (pc := 1) (As := []) (st := []) C h (fun _ _ e => ⟨_, _, _, _, _, _, Or.inr cu_X17_24_X16_here_X17, t_X16_here_X17 e, w_X16_here_X17 (Nat.le_refl 0) e⟩) (Nat.le_trans (Nat.le_of_ble_eq_true rfl) hd) (Nat.le_of_ble_eq_true rfl) dX17_person_1 (fun v2 σ1 h => ?_)
  refine r_bipush (pc := 4) (v := 97) C dX17_person_4 (by decide) ?_
  refine r_isub (pc := 6) C dX17_person_6 ?_
  refine r_istore_n (pc := 7) (i := 1) C dX17_person_7 rfl (by decide) ?_
  refine r_aload_n (pc := 8) (i := 0) C dX17_person_8 rfl rfl ?_
  refine r_callUI (pc := 9) (As := []) (st := []) C h (fun _ _ e => ⟨_, _, _, _, _, _, Or.inr cu_X17_28_X16_seesPerson_X17, t_X16_seesPerson_X17 e, w_X16_seesPerson_X17 (Nat.le_refl 2) e⟩) (Nat.le_trans (Nat.le_of_ble_eq_true rfl) hd) (Nat.le_of_ble_eq_true rfl) dX17_person_9 (fun v4 σ3 h => ?_)
  refine r_ifne (pc := 12) (tgt := 27) C dX17_person_12 (by decide) h (fun h => ?_) (fun h => ?_)
  · refine r_aload_n (pc := 27) (i := 0) C dX17_person_27 rfl rfl ?_
    refine r_getP (pc := 28) C fd_X17_3 rfl dX17_person_28 h (fun p5 h => ?_)
    refine r_iload_n (pc := 31) (i := 1) C dX17_person_31 rfl rfl ?_
    refine r_callVI (pc := 32) (As := [.int (v2 - 97)]) (st := []) C cs_X17_39_X0_isTold h (fun _ _ e => w_X0_isTold (Nat.le_refl 1) e) (fun _ _ e => t_X0_isTold e) (Nat.le_trans (Nat.le_of_ble_eq_true rfl) hd) (Nat.le_of_ble_eq_true rfl) dX17_person_32 (fun v7 σ6 h => ?_)
    refine r_ifne (pc := 35) (tgt := 48) C dX17_person_35 (by decide) h (fun h => ?_) (fun h => ?_)
    · refine r_iload_n (pc := 48) (i := 1) C dX17_person_48 rfl rfl ?_
      exact r_iret (pc := 49) C rfl dX17_person_49 h E
    · refine r_aload_n (pc := 38) (i := 0) C dX17_person_38 rfl rfl ?_
      refine r_bipush (pc := 39) (v := 7) C dX17_person_39 (by decide) ?_
      refine r_aload_n (pc := 41) (i := 0) C dX17_person_41 rfl rfl ?_
      refine r_callUI (pc := 42) (As := []) (st := [.int 7, rv B a0]) C h (fun _ _ e => ⟨_, _, _, _, _, _, Or.inr cu_X17_32_X16_place_X17, t_X16_place_X17 e, w_X16_place_X17 (Nat.le_refl 0) e⟩) (Nat.le_trans (Nat.le_of_ble_eq_true rfl) hd) (Nat.le_of_ble_eq_true rfl) dX17_person_42 (fun v9 σ8 h => ?_)
      refine r_callUV (pc := 45) (As := [.int 7, .int v9]) (st := []) C h (fun _ e => ⟨_, _, _, _, _, _, Or.inr cu_X17_35_X16_bad_X17, t_X16_bad_X17 e, w_X16_bad_X17 (Nat.le_refl 0) e⟩) (Nat.le_trans (Nat.le_of_ble_eq_true rfl) hd) (Nat.le_of_ble_eq_true rfl) dX17_person_45 (fun σ10 h => ?_)
      refine r_iload_n (pc := 48) (i := 1) C dX17_person_48 rfl rfl ?_
      exact r_iret (pc := 49) C rfl dX17_person_49 h E
  · refine r_aload_n (pc := 15) (i := 0) C dX17_person_15 rfl rfl ?_
    refine r_iconst (pc := 16) (v := 1) C dX17_person_16 (by decide) ?_
    refine r_aload_n (pc := 17) (i := 0) C dX17_person_17 rfl rfl ?_
    refine r_callUI (pc := 18) (As := []) (st := [.int 1, rv B a0]) C h (fun _ _ e => ⟨_, _, _, _, _, _, Or.inr cu_X17_32_X16_place_X17, t_X16_place_X17 e, w_X16_place_X17 (Nat.le_refl 0) e⟩) (Nat.le_trans (Nat.le_of_ble_eq_true rfl) hd) (Nat.le_of_ble_eq_true rfl) dX17_person_18 (fun v12 σ11 h => ?_)
    refine r_callUV (pc := 21) (As := [.int 1, .int v12]) (st := []) C h (fun _ e => ⟨_, _, _, _, _, _, Or.inr cu_X17_35_X16_bad_X17, t_X16_bad_X17 e, w_X16_bad_X17 (Nat.le_refl 0) e⟩) (Nat.le_trans (Nat.le_of_ble_eq_true rfl) hd) (Nat.le_of_ble_eq_true rfl) dX17_person_21 (fun σ13 h => ?_)
    refine r_goto (pc := 24) (tgt := 48) C dX17_person_24 (by decide) ?_
    refine r_iload_n (pc := 48) (i := 1) C dX17_person_48 rfl rfl ?_
    exact r_iret (pc := 49) C rfl dX17_person_49 h E
theorem t_X17_person {F : Nat} {σ : MM} {a0 : Nat} {r : Int32 × MM} (h : g_X17_person F σ a0 = some r) : mT σ a0 = (13, 8) := by
  unfold g_X17_person at h
  exact (r_ck h).1
def g_X16_goes_X17 (F : Nat) (σ : MM) (a0 : Nat) : Option (MM) := if mT σ a0 = (13, 8) then ((gI σ a0 13 8 1).bind fun v1 => (pI σ a0 13 8 1 ((v1 + 1))).bind fun σ2 => some σ2) else none
theorem w_X16_goes_X17 {B F : Nat} {d : Nat} {σ : MM} {a0 : Nat} {σf : MM} (hd : 0 ≤ d) (h : g_X16_goes_X17 F σ a0 = some σf) : xMA B yX16_goes cX16_goes 1 none d 0 0 [rv B a0] σ none σf := by
  refine xMA.of (by decide +kernel) (Nat.le_of_ble_eq_true rfl) (cat_rv cat_nil) (fun G C E => ?_)
  unfold g_X16_goes_X17 at h
  obtain ⟨-, h⟩ := r_ck h
  refine r_aload_n (pc := 0) (i := 0) C dX16_goes_0 rfl rfl ?_
  refine r_dup (pc := 1) C dX16_goes_1 ?_
  refine r_getI (pc := 2) C fd_X16_19_X17 rfl dX16_goes_2 h (fun v1 h => ?_)
  refine r_iconst (pc := 5) (v := 1) C dX16_goes_5 (by decide) ?_
  refine r_iadd (pc := 6) C dX16_goes_6 ?_
  refine r_putI (pc := 7) C fd_X16_19_X17 ft_X17_1 dX16_goes_7 h (fun σ2 h => ?_)
  exact r_vret (pc := 10) C rfl dX16_goes_10 h E
theorem t_X16_goes_X17 {F : Nat} {σ : MM} {a0 : Nat} {r : MM} (h : g_X16_goes_X17 F σ a0 = some r) : mT σ a0 = (13, 8) := by
  unfold g_X16_goes_X17 at h
  exact (r_ck h).1
def g_X16_isGood_X17 (F : Nat) (σ : MM) (a0 : Nat) : Option (Int32 × MM) := if mT σ a0 = (13, 8) then ((gI σ a0 13 8 2).bind fun v1 => if v1 = 0 then (some (1, σ)) else (some (0, σ))) else none
theorem w_X16_isGood_X17 {B F : Nat} {d : Nat} {σ : MM} {a0 : Nat} {rf : Int32} {σf : MM} (hd : 0 ≤ d) (h : g_X16_isGood_X17 F σ a0 = some (rf, σf)) : xMA B yX16_isGood cX16_isGood 1 (some .boolean) d 0 0 [rv B a0] σ (some (.int rf)) σf := by
  refine xMA.of (by decide +kernel) (Nat.le_of_ble_eq_true rfl) (cat_rv cat_nil) (fun G C E => ?_)
  unfold g_X16_isGood_X17 at h
  obtain ⟨-, h⟩ := r_ck h
  refine r_aload_n (pc := 0) (i := 0) C dX16_isGood_0 rfl rfl ?_
  refine r_getI (pc := 1) C fd_X16_26_X17 rfl dX16_isGood_1 h (fun v1 h => ?_)
  refine r_ifne (pc := 4) (tgt := 11) C dX16_isGood_4 (by decide) h (fun h => ?_) (fun h => ?_)
  · refine r_iconst (pc := 11) (v := 0) C dX16_isGood_11 (by decide) ?_
    exact r_zretL (pc := 12) C rfl dX16_isGood_12 (Or.inl rfl) h E
  · refine r_iconst (pc := 7) (v := 1) C dX16_isGood_7 (by decide) ?_
    refine r_goto (pc := 8) (tgt := 12) C dX16_isGood_8 (by decide) ?_
    exact r_zretL (pc := 12) C rfl dX16_isGood_12 (Or.inr rfl) h E
theorem t_X16_isGood_X17 {F : Nat} {σ : MM} {a0 : Nat} {r : Int32 × MM} (h : g_X16_isGood_X17 F σ a0 = some r) : mT σ a0 = (13, 8) := by
  unfold g_X16_isGood_X17 at h
  exact (r_ck h).1
theorem cu_X17_43_X16_sees_X17 : xCU' RX17 43 yX16_sees cX16_sees 3 (some .boolean) 13 8 2 := ⟨by decide, by decide, _, ⟨"OneCoin$Clerk", "sees", "(II)Z"⟩, "OneCoin$Scribe", rfl, lw_U q788 q789 q791 q740 q138 q744, ⟨by decide +kernel, by decide +kernel, by decide +kernel⟩, rfl⟩
theorem cu_X17_47_X16_goes_X17 : xCU' RX17 47 yX16_goes cX16_goes 1 none 13 8 0 := ⟨by decide, by decide, _, ⟨"OneCoin$Clerk", "goes", "()V"⟩, "OneCoin$Scribe", rfl, lw_U q772 q773 q775 q776 q138 q777, ⟨by decide +kernel, by decide +kernel, by decide +kernel⟩, rfl⟩
def l_X17_many_22 (K : Int32 → MM → Option (Int32 × MM)) (F : Nat) (a0 : Nat) (x1 : Int32) : Nat → Int32 → Int32 → MM → Option (Int32 × MM)
  | 0, _, _, _ => none
  | f + 1, z2, z3, σ => if z3 < 2 then (bq (g_X16_sees_X17 F σ a0 48 57) fun v6 σ5 => if v6 = 0 then (K z2 σ5) else (bq (g_X16_here_X17 F σ5 a0) fun v8 σ7 => (g_X16_goes_X17 F σ7 a0).bind fun σ9 => l_X17_many_22 K F a0 x1 f ((((10 * z2) + v8) - 48)) ((z3 + 1)) σ9)) else (K z2 σ)
def g_X17_many (F : Nat) (σ : MM) (a0 : Nat) : Option (Int32 × MM) := if mT σ a0 = (13, 8) then (bq (g_X16_sees_X17 F σ a0 48 57) fun v2 σ1 => if v2 = 0 then (some (1, σ1)) else (bq (g_X16_place_X17 F σ1 a0) fun v4 σ3 => l_X17_many_22 (fun (r2_11 : Int32) (σ10 : MM) => if r2_11 = 0 then ((g_X16_bad_X17 F σ10 a0 3 v4).bind fun σ12 => some (r2_11, σ12)) else (some (r2_11, σ10))) F a0 v4 F 0 0 σ3)) else none
theorem wl_X17_many_22 {B : Nat} {G : XG} {d : Nat} {rf : Int32} {σf : MM} (hd : 2 ≤ d) (C : xC B G yX17_many cX17_many 4 (some .int) d 0 0) (E : xEnd B G (some (.int rf)) σf 0 0) {K : Int32 → MM → Option (Int32 × MM)} {F : Nat} {a0 : Nat} {x1 : Int32} (hK : ∀ (q2 : Int32) (σ : MM), K q2 σ = some (rf, σf) → xV B G 0 0 σ 61 [(0, rv B a0), (1, .int x1), (2, .int q2)] []) : ∀ (f : Nat) (z2 : Int32) (z3 : Int32) (σ : MM), l_X17_many_22 K F a0 x1 f z2 z3 σ = some (rf, σf) → xV B G 0 0 σ 22 [(0, rv B a0), (1, .int x1), (2, .int z2), (3, .int z3)] [] := by
  intro f
  induction f with
  | zero =>
    intro z2 z3 σ h
    have h : none = some (rf, σf) := h
    cases h
  | succ f ih =>
    intro z2 z3 σ h
    rw [l_X17_many_22.eq_2] at h
    refine r_iload_n (pc := 22) (i := 3) C dX17_many_22 rfl rfl ?_
    refine r_iconst (pc := 23) (v := 2) C dX17_many_23 (by decide) ?_
    refine r_icmpge (pc := 24) (tgt := 61) C dX17_many_24 (by decide) h (fun h => ?_) (fun h => ?_)
    · refine r_pick (lv' := [(0, rv B a0), (1, .int x1), (2, .int z2)]) [0, 1, 2] rfl ?_
      exact hK _ _ h
    · refine r_aload_n (pc := 27) (i := 0) C dX17_many_27 rfl rfl ?_
      refine r_bipush (pc := 28) (v := 48) C dX17_many_28 (by decide) ?_
      refine r_bipush (pc := 30) (v := 57) C dX17_many_30 (by decide) ?_
      refine r_callUI (pc := 32) (As := [.int 48, .int 57]) (st := []) C h (fun _ _ e => ⟨_, _, _, _, _, _, Or.inr cu_X17_43_X16_sees_X17, t_X16_sees_X17 e, w_X16_sees_X17 (Nat.le_refl 1) e⟩) (Nat.le_trans (Nat.le_of_ble_eq_true rfl) hd) (Nat.le_of_ble_eq_true rfl) dX17_many_32 (fun v6 σ5 h => ?_)
      refine r_ifeq (pc := 35) (tgt := 61) C dX17_many_35 (by decide) h (fun h => ?_) (fun h => ?_)
      · refine r_pick (lv' := [(0, rv B a0), (1, .int x1), (2, .int z2)]) [0, 1, 2] rfl ?_
        exact hK _ _ h
      · refine r_bipush (pc := 38) (v := 10) C dX17_many_38 (by decide) ?_
        refine r_iload_n (pc := 40) (i := 2) C dX17_many_40 rfl rfl ?_
        refine r_imul (pc := 41) C dX17_many_41 ?_
        refine r_aload_n (pc := 42) (i := 0) C dX17_many_42 rfl rfl ?_
        refine r_callUI (pc := 43) (As := []) (st := [.int (10 * z2)]) C h (fun _ _ e => ⟨_, _, _, _, _, _, Or.inr cu_X17_24_X16_here_X17, t_X16_here_X17 e, w_X16_here_X17 (Nat.le_refl 0) e⟩) (Nat.le_trans (Nat.le_of_ble_eq_true rfl) hd) (Nat.le_of_ble_eq_true rfl) dX17_many_43 (fun v8 σ7 h => ?_)
        refine r_iadd (pc := 46) C dX17_many_46 ?_
        refine r_bipush (pc := 47) (v := 48) C dX17_many_47 (by decide) ?_
        refine r_isub (pc := 49) C dX17_many_49 ?_
        refine r_istore_n (pc := 50) (i := 2) C dX17_many_50 rfl (by decide) ?_
        refine r_aload_n (pc := 51) (i := 0) C dX17_many_51 rfl rfl ?_
        refine r_callUV (pc := 52) (As := []) (st := []) C h (fun _ e => ⟨_, _, _, _, _, _, Or.inr cu_X17_47_X16_goes_X17, t_X16_goes_X17 e, w_X16_goes_X17 (Nat.le_refl 0) e⟩) (Nat.le_trans (Nat.le_of_ble_eq_true rfl) hd) (Nat.le_of_ble_eq_true rfl) dX17_many_52 (fun σ9 h => ?_)
        refine r_iinc (pc := 55) (i := 3) (v := (z3 + 1)) C dX17_many_55 rfl rfl (by decide) ?_
        refine r_goto (pc := 58) (tgt := 22) C dX17_many_58 (by decide) ?_
        refine r_pick (lv' := [(0, rv B a0), (1, .int x1), (2, .int (((10 * z2) + v8) - 48)), (3, .int (z3 + 1))]) [0, 1, 2, 3] rfl ?_
        exact ih _ _ _ h
theorem w_X17_many {B F : Nat} {d : Nat} {σ : MM} {a0 : Nat} {rf : Int32} {σf : MM} (hd : 2 ≤ d) (h : g_X17_many F σ a0 = some (rf, σf)) : xMA B yX17_many cX17_many 4 (some .int) d 0 0 [rv B a0] σ (some (.int rf)) σf := by
  refine xMA.of (by decide +kernel) (Nat.le_of_ble_eq_true rfl) (cat_rv cat_nil) (fun G C E => ?_)
  unfold g_X17_many at h
  obtain ⟨-, h⟩ := r_ck h
  refine r_aload_n (pc := 0) (i := 0) C dX17_many_0 rfl rfl ?_
  refine r_bipush (pc := 1) (v := 48) C dX17_many_1 (by decide) ?_
  refine r_bipush (pc := 3) (v := 57) C dX17_many_3 (by decide) ?_
  refine r_callUI (pc := 5) (As := [.int 48, .int 57]) (st := []) C h (fun _ _ e => ⟨_, _, _, _, _, _, Or.inr cu_X17_43_X16_sees_X17, t_X16_sees_X17 e, w_X16_sees_X17 (Nat.le_refl 1) e⟩) (Nat.le_trans (Nat.le_of_ble_eq_true rfl) hd) (Nat.le_of_ble_eq_true rfl) dX17_many_5 (fun v2 σ1 h => ?_)
  refine r_ifne (pc := 8) (tgt := 13) C dX17_many_8 (by decide) h (fun h => ?_) (fun h => ?_)
  · refine r_aload_n (pc := 13) (i := 0) C dX17_many_13 rfl rfl ?_
    refine r_callUI (pc := 14) (As := []) (st := []) C h (fun _ _ e => ⟨_, _, _, _, _, _, Or.inr cu_X17_32_X16_place_X17, t_X16_place_X17 e, w_X16_place_X17 (Nat.le_refl 0) e⟩) (Nat.le_trans (Nat.le_of_ble_eq_true rfl) hd) (Nat.le_of_ble_eq_true rfl) dX17_many_14 (fun v4 σ3 h => ?_)
    refine r_istore_n (pc := 17) (i := 1) C dX17_many_17 rfl (by decide) ?_
    refine r_iconst (pc := 18) (v := 0) C dX17_many_18 (by decide) ?_
    refine r_istore_n (pc := 19) (i := 2) C dX17_many_19 rfl (by decide) ?_
    refine r_iconst (pc := 20) (v := 0) C dX17_many_20 (by decide) ?_
    refine r_istore_n (pc := 21) (i := 3) C dX17_many_21 rfl (by decide) ?_
    refine r_pick (lv' := [(0, rv B a0), (1, .int v4), (2, .int 0), (3, .int 0)]) [0, 1, 2, 3] rfl ?_
    refine wl_X17_many_22 hd C E (fun r2_11 σ10 h => ?_) _ _ _ _ h
    refine r_iload_n (pc := 61) (i := 2) C dX17_many_61 rfl rfl ?_
    refine r_ifne (pc := 62) (tgt := 71) C dX17_many_62 (by decide) h (fun h => ?_) (fun h => ?_)
    · refine r_iload_n (pc := 71) (i := 2) C dX17_many_71 rfl rfl ?_
      exact r_iret (pc := 72) C rfl dX17_many_72 h E
    · refine r_aload_n (pc := 65) (i := 0) C dX17_many_65 rfl rfl ?_
      refine r_iconst (pc := 66) (v := 3) C dX17_many_66 (by decide) ?_
      refine r_iload_n (pc := 67) (i := 1) C dX17_many_67 rfl rfl ?_
      refine r_callUV (pc := 68) (As := [.int 3, .int v4]) (st := []) C h (fun _ e => ⟨_, _, _, _, _, _, Or.inr cu_X17_35_X16_bad_X17, t_X16_bad_X17 e, w_X16_bad_X17 (Nat.le_refl 0) e⟩) (Nat.le_trans (Nat.le_of_ble_eq_true rfl) hd) (Nat.le_of_ble_eq_true rfl) dX17_many_68 (fun σ12 h => ?_)
      refine r_iload_n (pc := 71) (i := 2) C dX17_many_71 rfl rfl ?_
      exact r_iret (pc := 72) C rfl dX17_many_72 h E
  · refine r_iconst (pc := 11) (v := 1) C dX17_many_11 (by decide) ?_
    exact r_iret (pc := 12) C rfl dX17_many_12 h E
theorem t_X17_many {F : Nat} {σ : MM} {a0 : Nat} {r : Int32 × MM} (h : g_X17_many F σ a0 = some r) : mT σ a0 = (13, 8) := by
  unfold g_X17_many at h
  exact (r_ck h).1
theorem yd_X17_person : xYd yX17_person 0 := ⟨by decide +kernel, by decide +kernel, by decide +kernel⟩
theorem cs_X17_54_X17_person : xCV RX17 54 yX17_person cX17_person 2 (some .int) 13 8 0 := ⟨by decide, by decide, _, rfl, yd_X17_person, Or.inl ⟨rfl, lw_V q763 q765 qs17 q139 q766⟩⟩
theorem cu_X17_57_X16_isGood_X17 : xCU' RX17 57 yX16_isGood cX16_isGood 1 (some .boolean) 13 8 0 := ⟨by decide, by decide, _, ⟨"OneCoin$Clerk", "isGood", "()Z"⟩, "OneCoin$Scribe", rfl, lw_U q778 q779 q781 q782 q138 q783, ⟨by decide +kernel, by decide +kernel, by decide +kernel⟩, rfl⟩
theorem fd_X17_63 : xFg RX17 63 3 1 0 := ⟨_, rfl, rfl, by decide, by decide, in_X4, Or.inr ⟨_, in_nest q209 rfl⟩⟩
theorem fd_X17_50 : xFg RX17 50 13 8 6 := ⟨_, rfl, rfl, by decide, by decide, in_X17, Or.inl q701⟩
theorem ft_X17_6 : xFt 13 6 .int false := ⟨_, rfl, by decide +kernel, rfl, rfl⟩
theorem yd_X17_many : xYd yX17_many 0 := ⟨by decide +kernel, by decide +kernel, by decide +kernel⟩
theorem cs_X17_60_X17_many : xCV RX17 60 yX17_many cX17_many 4 (some .int) 13 8 0 := ⟨by decide, by decide, _, rfl, yd_X17_many, Or.inl ⟨rfl, lw_V q784 q786 qs18 q139 q787⟩⟩
def g_X17_line (F : Nat) (σ : MM) (a0 : Nat) : Option (MM) := if mT σ a0 = (13, 8) then (bq (g_X16_seesPerson_X17 F σ a0) fun v2 σ1 => jn (fun (σ3 : MM) => bq (g_X17_person F σ3 a0) fun v6 σ5 => (g_X16_goes_X17 F σ5 a0).bind fun σ7 => bq (g_X16_isGood_X17 F σ7 a0) fun v9 σ8 => jn (fun (σ10 : MM) => (g_X16_goes_X17 F σ10 a0).bind fun σ12 => bq (g_X16_isGood_X17 F σ12 a0) fun v14 σ13 => jn (fun (w16 : Int32) (σ15 : MM) => bq (g_X16_isGood_X17 F σ15 a0) fun v19 σ18 => jn (fun (σ20 : MM) => (g_X16_goes_X17 F σ20 a0).bind fun σ22 => bq (g_X16_isGood_X17 F σ22 a0) fun v24 σ23 => jn (fun (w26 : Int32) (σ25 : MM) => bq (g_X16_isGood_X17 F σ25 a0) fun v29 σ28 => if v29 = 0 then (some σ28) else ((gP σ28 a0 13 8 5).bind fun p30 => (gP σ28 p30 3 1 0).bind fun p31 => (aP σ28 p31 22 v6).bind fun p32 => (gP σ28 a0 13 8 5).bind fun p33 => (gP σ28 p33 3 1 0).bind fun p34 => (aP σ28 p34 22 v6).bind fun p35 => (aI σ28 p35 20 w16).bind fun v36 => (sI σ28 p32 w16 ((jmin 99 ((v36 + w26))))).bind fun σ39 => (gI σ39 a0 13 8 6).bind fun v40 => (pI σ39 a0 13 8 6 ((v40 + 1))).bind fun σ41 => some σ41)) (fun k27 => if v24 = 0 then (k27 0 σ23) else (bq (g_X17_many F σ23 a0) fun v43 σ42 => k27 v43 σ42))) (fun k21 => if v19 = 0 then (k21 σ18) else (if v6 = w16 then (bq (g_X16_place_X17 F σ18 a0) fun v45 σ44 => (g_X16_bad_X17 F σ44 a0 6 v45).bind fun σ46 => k21 σ46) else (k21 σ18)))) (fun k17 => if v14 = 0 then (k17 ((-1)) σ13) else (bq (g_X17_person F σ13 a0) fun v48 σ47 => k17 v48 σ47))) (fun k11 => if v9 = 0 then (k11 σ8) else (bq (g_X16_here_X17 F σ8 a0) fun v50 σ49 => if v50 = 62 then (k11 σ49) else (bq (g_X16_place_X17 F σ49 a0) fun v52 σ51 => (g_X16_bad_X17 F σ51 a0 1 v52).bind fun σ53 => k11 σ53)))) (fun k4 => if v2 = 0 then (k4 σ1) else ((gI σ1 a0 13 8 6).bind fun v54 => if v54 = 30 then (bq (g_X16_place_X17 F σ1 a0) fun v56 σ55 => (g_X16_bad_X17 F σ55 a0 4 v56).bind fun σ57 => k4 σ57) else (k4 σ1)))) else none
theorem w_X17_line {B F : Nat} {d : Nat} {σ : MM} {a0 : Nat} {σf : MM} (hd : 4 ≤ d) (h : g_X17_line F σ a0 = some σf) : xMA B yX17_line cX17_line 4 none d 0 0 [rv B a0] σ none σf := by
  refine xMA.of (by decide +kernel) (Nat.le_of_ble_eq_true rfl) (cat_rv cat_nil) (fun G C E => ?_)
  unfold g_X17_line at h
  obtain ⟨-, h⟩ := r_ck h
  refine r_aload_n (pc := 0) (i := 0) C dX17_line_0 rfl rfl ?_
  refine r_callUI (pc := 1) (As := []) (st := []) C h (fun _ _ e => ⟨_, _, _, _, _, _, Or.inr cu_X17_28_X16_seesPerson_X17, t_X16_seesPerson_X17 e, w_X16_seesPerson_X17 (Nat.le_refl 2) e⟩) (Nat.le_trans (Nat.le_of_ble_eq_true rfl) hd) (Nat.le_of_ble_eq_true rfl) dX17_line_1 (fun v2 σ1 h => ?_)
  refine r_jn (fun k9 => ∀  (σ3 : MM), k9 σ3 = some σf → xV B G 0 0 σ3 25 [(0, rv B a0)] []) h (fun  σ3 h => ?_) (fun k4 hk4 h => ?_)
  · refine r_aload_n (pc := 25) (i := 0) C dX17_line_25 rfl rfl ?_
    refine r_callVI (pc := 26) (As := []) (st := []) C cs_X17_54_X17_person h (fun _ _ e => w_X17_person (Nat.le_refl 3) e) (fun _ _ e => t_X17_person e) (Nat.le_trans (Nat.le_of_ble_eq_true rfl) hd) (Nat.le_of_ble_eq_true rfl) dX17_line_26 (fun v6 σ5 h => ?_)
    refine r_istore_n (pc := 29) (i := 1) C dX17_line_29 rfl (by decide) ?_
    refine r_aload_n (pc := 30) (i := 0) C dX17_line_30 rfl rfl ?_
    refine r_callUV (pc := 31) (As := []) (st := []) C h (fun _ e => ⟨_, _, _, _, _, _, Or.inr cu_X17_47_X16_goes_X17, t_X16_goes_X17 e, w_X16_goes_X17 (Nat.le_refl 0) e⟩) (Nat.le_trans (Nat.le_of_ble_eq_true rfl) hd) (Nat.le_of_ble_eq_true rfl) dX17_line_31 (fun σ7 h => ?_)
    refine r_aload_n (pc := 34) (i := 0) C dX17_line_34 rfl rfl ?_
    refine r_callUI (pc := 35) (As := []) (st := []) C h (fun _ _ e => ⟨_, _, _, _, _, _, Or.inr cu_X17_57_X16_isGood_X17, t_X16_isGood_X17 e, w_X16_isGood_X17 (Nat.le_refl 0) e⟩) (Nat.le_trans (Nat.le_of_ble_eq_true rfl) hd) (Nat.le_of_ble_eq_true rfl) dX17_line_35 (fun v9 σ8 h => ?_)
    refine r_jn (fun k9 => ∀  (σ10 : MM), k9 σ10 = some σf → xV B G 0 0 σ10 59 [(0, rv B a0), (1, .int v6)] []) h (fun  σ10 h => ?_) (fun k11 hk11 h => ?_)
    · refine r_aload_n (pc := 59) (i := 0) C dX17_line_59 rfl rfl ?_
      refine r_callUV (pc := 60) (As := []) (st := []) C h (fun _ e => ⟨_, _, _, _, _, _, Or.inr cu_X17_47_X16_goes_X17, t_X16_goes_X17 e, w_X16_goes_X17 (Nat.le_refl 0) e⟩) (Nat.le_trans (Nat.le_of_ble_eq_true rfl) hd) (Nat.le_of_ble_eq_true rfl) dX17_line_60 (fun σ12 h => ?_)
      refine r_aload_n (pc := 63) (i := 0) C dX17_line_63 rfl rfl ?_
      refine r_callUI (pc := 64) (As := []) (st := []) C h (fun _ _ e => ⟨_, _, _, _, _, _, Or.inr cu_X17_57_X16_isGood_X17, t_X16_isGood_X17 e, w_X16_isGood_X17 (Nat.le_refl 0) e⟩) (Nat.le_trans (Nat.le_of_ble_eq_true rfl) hd) (Nat.le_of_ble_eq_true rfl) dX17_line_64 (fun v14 σ13 h => ?_)
      refine r_jn (fun k9 => ∀ (w16 : Int32) (σ15 : MM), k9 w16 σ15 = some σf → xV B G 0 0 σ15 78 [(0, rv B a0), (1, .int v6)] [.int w16]) h (fun w16 σ15 h => ?_) (fun k17 hk17 h => ?_)
      · refine r_istore_n (pc := 78) (i := 2) C dX17_line_78 rfl (by decide) ?_
        refine r_aload_n (pc := 79) (i := 0) C dX17_line_79 rfl rfl ?_
        refine r_callUI (pc := 80) (As := []) (st := []) C h (fun _ _ e => ⟨_, _, _, _, _, _, Or.inr cu_X17_57_X16_isGood_X17, t_X16_isGood_X17 e, w_X16_isGood_X17 (Nat.le_refl 0) e⟩) (Nat.le_trans (Nat.le_of_ble_eq_true rfl) hd) (Nat.le_of_ble_eq_true rfl) dX17_line_80 (fun v19 σ18 h => ?_)
        refine r_jn (fun k9 => ∀  (σ20 : MM), k9 σ20 = some σf → xV B G 0 0 σ20 101 [(0, rv B a0), (1, .int v6), (2, .int w16)] []) h (fun  σ20 h => ?_) (fun k21 hk21 h => ?_)
        · refine r_aload_n (pc := 101) (i := 0) C dX17_line_101 rfl rfl ?_
          refine r_callUV (pc := 102) (As := []) (st := []) C h (fun _ e => ⟨_, _, _, _, _, _, Or.inr cu_X17_47_X16_goes_X17, t_X16_goes_X17 e, w_X16_goes_X17 (Nat.le_refl 0) e⟩) (Nat.le_trans (Nat.le_of_ble_eq_true rfl) hd) (Nat.le_of_ble_eq_true rfl) dX17_line_102 (fun σ22 h => ?_)
          refine r_aload_n (pc := 105) (i := 0) C dX17_line_105 rfl rfl ?_
          refine r_callUI (pc := 106) (As := []) (st := []) C h (fun _ _ e => ⟨_, _, _, _, _, _, Or.inr cu_X17_57_X16_isGood_X17, t_X16_isGood_X17 e, w_X16_isGood_X17 (Nat.le_refl 0) e⟩) (Nat.le_trans (Nat.le_of_ble_eq_true rfl) hd) (Nat.le_of_ble_eq_true rfl) dX17_line_106 (fun v24 σ23 h => ?_)
          refine r_jn (fun k9 => ∀ (w26 : Int32) (σ25 : MM), k9 w26 σ25 = some σf → xV B G 0 0 σ25 120 [(0, rv B a0), (1, .int v6), (2, .int w16)] [.int w26]) h (fun w26 σ25 h => ?_) (fun k27 hk27 h => ?_)
          · refine r_istore_n (pc := 120) (i := 3) C dX17_line_120 rfl (by decide) ?_
            refine r_aload_n (pc := 121) (i := 0) C dX17_line_121 rfl rfl ?_
            refine r_callUI (pc := 122) (As := []) (st := []) C h (fun _ _ e => ⟨_, _, _, _, _, _, Or.inr cu_X17_57_X16_isGood_X17, t_X16_isGood_X17 e, w_X16_isGood_X17 (Nat.le_refl 0) e⟩) (Nat.le_trans (Nat.le_of_ble_eq_true rfl) hd) (Nat.le_of_ble_eq_true rfl) dX17_line_122 (fun v29 σ28 h => ?_)
            refine r_ifne (pc := 125) (tgt := 129) C dX17_line_125 (by decide) h (fun h => ?_) (fun h => ?_)
            · refine r_aload_n (pc := 129) (i := 0) C dX17_line_129 rfl rfl ?_
              refine r_getP (pc := 130) C fd_X17_20 rfl dX17_line_130 h (fun p30 h => ?_)
              refine r_getP (pc := 133) C fd_X17_63 rfl dX17_line_133 h (fun p31 h => ?_)
              refine r_iload_n (pc := 136) (i := 1) C dX17_line_136 rfl rfl ?_
              refine r_aald (pc := 137) 0 (by decide) C dX17_line_137 h (fun p32 h => ?_)
              refine r_iload_n (pc := 138) (i := 2) C dX17_line_138 rfl rfl ?_
              refine r_bipush (pc := 139) (v := 99) C dX17_line_139 (by decide) ?_
              refine r_aload_n (pc := 141) (i := 0) C dX17_line_141 rfl rfl ?_
              refine r_getP (pc := 142) C fd_X17_20 rfl dX17_line_142 h (fun p33 h => ?_)
              refine r_getP (pc := 145) C fd_X17_63 rfl dX17_line_145 h (fun p34 h => ?_)
              refine r_iload_n (pc := 148) (i := 1) C dX17_line_148 rfl rfl ?_
              refine r_aald (pc := 149) 0 (by decide) C dX17_line_149 h (fun p35 h => ?_)
              refine r_iload_n (pc := 150) (i := 2) C dX17_line_150 rfl rfl ?_
              refine r_iald (pc := 151) C dX17_line_151 h (fun v36 h => ?_)
              refine r_iload_n (pc := 152) (i := 3) C dX17_line_152 rfl rfl ?_
              refine r_iadd (pc := 153) C dX17_line_153 ?_
              refine r_mmin (pc := 154) C q792 q499 q126 q500 (Nat.le_trans (Nat.le_of_ble_eq_true rfl) hd) (Nat.le_of_ble_eq_true rfl) (Nat.le_of_ble_eq_true rfl) (Nat.le_of_ble_eq_true rfl) dX17_line_154 ?_
              refine r_iast (pc := 157) C dX17_line_157 h (fun σ39 h => ?_)
              refine r_aload_n (pc := 158) (i := 0) C dX17_line_158 rfl rfl ?_
              refine r_dup (pc := 159) C dX17_line_159 ?_
              refine r_getI (pc := 160) C fd_X17_50 rfl dX17_line_160 h (fun v40 h => ?_)
              refine r_iconst (pc := 163) (v := 1) C dX17_line_163 (by decide) ?_
              refine r_iadd (pc := 164) C dX17_line_164 ?_
              refine r_putI (pc := 165) C fd_X17_50 ft_X17_6 dX17_line_165 h (fun σ41 h => ?_)
              exact r_vret (pc := 168) C rfl dX17_line_168 h E
            · exact r_vret (pc := 128) C rfl dX17_line_128 h E
          · refine r_ifeq (pc := 109) (tgt := 119) C dX17_line_109 (by decide) h (fun h => ?_) (fun h => ?_)
            · refine r_iconst (pc := 119) (v := 0) C dX17_line_119 (by decide) ?_
              refine r_pick (lv' := [(0, rv B a0), (1, .int v6), (2, .int w16)]) [0, 1, 2] rfl ?_
              exact hk27 _ _ h
            · refine r_aload_n (pc := 112) (i := 0) C dX17_line_112 rfl rfl ?_
              refine r_callVI (pc := 113) (As := []) (st := []) C cs_X17_60_X17_many h (fun _ _ e => w_X17_many (Nat.le_refl 2) e) (fun _ _ e => t_X17_many e) (Nat.le_trans (Nat.le_of_ble_eq_true rfl) hd) (Nat.le_of_ble_eq_true rfl) dX17_line_113 (fun v43 σ42 h => ?_)
              refine r_goto (pc := 116) (tgt := 120) C dX17_line_116 (by decide) ?_
              refine r_pick (lv' := [(0, rv B a0), (1, .int v6), (2, .int w16)]) [0, 1, 2] rfl ?_
              exact hk27 _ _ h
        · refine r_ifeq (pc := 83) (tgt := 101) C dX17_line_83 (by decide) h (fun h => ?_) (fun h => ?_)
          · refine r_pick (lv' := [(0, rv B a0), (1, .int v6), (2, .int w16)]) [0, 1, 2] rfl ?_
            exact hk21 _ h
          · refine r_iload_n (pc := 86) (i := 1) C dX17_line_86 rfl rfl ?_
            refine r_iload_n (pc := 87) (i := 2) C dX17_line_87 rfl rfl ?_
            refine r_icmpne (pc := 88) (tgt := 101) C dX17_line_88 (by decide) h (fun h => ?_) (fun h => ?_)
            · refine r_pick (lv' := [(0, rv B a0), (1, .int v6), (2, .int w16)]) [0, 1, 2] rfl ?_
              exact hk21 _ h
            · refine r_aload_n (pc := 91) (i := 0) C dX17_line_91 rfl rfl ?_
              refine r_bipush (pc := 92) (v := 6) C dX17_line_92 (by decide) ?_
              refine r_aload_n (pc := 94) (i := 0) C dX17_line_94 rfl rfl ?_
              refine r_callUI (pc := 95) (As := []) (st := [.int 6, rv B a0]) C h (fun _ _ e => ⟨_, _, _, _, _, _, Or.inr cu_X17_32_X16_place_X17, t_X16_place_X17 e, w_X16_place_X17 (Nat.le_refl 0) e⟩) (Nat.le_trans (Nat.le_of_ble_eq_true rfl) hd) (Nat.le_of_ble_eq_true rfl) dX17_line_95 (fun v45 σ44 h => ?_)
              refine r_callUV (pc := 98) (As := [.int 6, .int v45]) (st := []) C h (fun _ e => ⟨_, _, _, _, _, _, Or.inr cu_X17_35_X16_bad_X17, t_X16_bad_X17 e, w_X16_bad_X17 (Nat.le_refl 0) e⟩) (Nat.le_trans (Nat.le_of_ble_eq_true rfl) hd) (Nat.le_of_ble_eq_true rfl) dX17_line_98 (fun σ46 h => ?_)
              refine r_pick (lv' := [(0, rv B a0), (1, .int v6), (2, .int w16)]) [0, 1, 2] rfl ?_
              exact hk21 _ h
      · refine r_ifeq (pc := 67) (tgt := 77) C dX17_line_67 (by decide) h (fun h => ?_) (fun h => ?_)
        · refine r_iconst (pc := 77) (v := (-1)) C dX17_line_77 (by decide) ?_
          refine r_pick (lv' := [(0, rv B a0), (1, .int v6)]) [0, 1] rfl ?_
          exact hk17 _ _ h
        · refine r_aload_n (pc := 70) (i := 0) C dX17_line_70 rfl rfl ?_
          refine r_callVI (pc := 71) (As := []) (st := []) C cs_X17_54_X17_person h (fun _ _ e => w_X17_person (Nat.le_refl 3) e) (fun _ _ e => t_X17_person e) (Nat.le_trans (Nat.le_of_ble_eq_true rfl) hd) (Nat.le_of_ble_eq_true rfl) dX17_line_71 (fun v48 σ47 h => ?_)
          refine r_goto (pc := 74) (tgt := 78) C dX17_line_74 (by decide) ?_
          refine r_pick (lv' := [(0, rv B a0), (1, .int v6)]) [0, 1] rfl ?_
          exact hk17 _ _ h
    · refine r_ifeq (pc := 38) (tgt := 59) C dX17_line_38 (by decide) h (fun h => ?_) (fun h => ?_)
      · refine r_pick (lv' := [(0, rv B a0), (1, .int v6)]) [0, 1] rfl ?_
        exact hk11 _ h
      · refine r_aload_n (pc := 41) (i := 0) C dX17_line_41 rfl rfl ?_
        refine r_callUI (pc := 42) (As := []) (st := []) C h (fun _ _ e => ⟨_, _, _, _, _, _, Or.inr cu_X17_24_X16_here_X17, t_X16_here_X17 e, w_X16_here_X17 (Nat.le_refl 0) e⟩) (Nat.le_trans (Nat.le_of_ble_eq_true rfl) hd) (Nat.le_of_ble_eq_true rfl) dX17_line_42 (fun v50 σ49 h => ?_)
        refine r_bipush (pc := 45) (v := 62) C dX17_line_45 (by decide) ?_
        refine r_icmpeq (pc := 47) (tgt := 59) C dX17_line_47 (by decide) h (fun h => ?_) (fun h => ?_)
        · refine r_pick (lv' := [(0, rv B a0), (1, .int v6)]) [0, 1] rfl ?_
          exact hk11 _ h
        · refine r_aload_n (pc := 50) (i := 0) C dX17_line_50 rfl rfl ?_
          refine r_iconst (pc := 51) (v := 1) C dX17_line_51 (by decide) ?_
          refine r_aload_n (pc := 52) (i := 0) C dX17_line_52 rfl rfl ?_
          refine r_callUI (pc := 53) (As := []) (st := [.int 1, rv B a0]) C h (fun _ _ e => ⟨_, _, _, _, _, _, Or.inr cu_X17_32_X16_place_X17, t_X16_place_X17 e, w_X16_place_X17 (Nat.le_refl 0) e⟩) (Nat.le_trans (Nat.le_of_ble_eq_true rfl) hd) (Nat.le_of_ble_eq_true rfl) dX17_line_53 (fun v52 σ51 h => ?_)
          refine r_callUV (pc := 56) (As := [.int 1, .int v52]) (st := []) C h (fun _ e => ⟨_, _, _, _, _, _, Or.inr cu_X17_35_X16_bad_X17, t_X16_bad_X17 e, w_X16_bad_X17 (Nat.le_refl 0) e⟩) (Nat.le_trans (Nat.le_of_ble_eq_true rfl) hd) (Nat.le_of_ble_eq_true rfl) dX17_line_56 (fun σ53 h => ?_)
          refine r_pick (lv' := [(0, rv B a0), (1, .int v6)]) [0, 1] rfl ?_
          exact hk11 _ h
  · refine r_ifeq (pc := 4) (tgt := 25) C dX17_line_4 (by decide) h (fun h => ?_) (fun h => ?_)
    · refine r_pick (lv' := [(0, rv B a0)]) [0] rfl ?_
      exact hk4 _ h
    · refine r_aload_n (pc := 7) (i := 0) C dX17_line_7 rfl rfl ?_
      refine r_getI (pc := 8) C fd_X17_50 rfl dX17_line_8 h (fun v54 h => ?_)
      refine r_bipush (pc := 11) (v := 30) C dX17_line_11 (by decide) ?_
      refine r_icmpne (pc := 13) (tgt := 25) C dX17_line_13 (by decide) h (fun h => ?_) (fun h => ?_)
      · refine r_pick (lv' := [(0, rv B a0)]) [0] rfl ?_
        exact hk4 _ h
      · refine r_aload_n (pc := 16) (i := 0) C dX17_line_16 rfl rfl ?_
        refine r_iconst (pc := 17) (v := 4) C dX17_line_17 (by decide) ?_
        refine r_aload_n (pc := 18) (i := 0) C dX17_line_18 rfl rfl ?_
        refine r_callUI (pc := 19) (As := []) (st := [.int 4, rv B a0]) C h (fun _ _ e => ⟨_, _, _, _, _, _, Or.inr cu_X17_32_X16_place_X17, t_X16_place_X17 e, w_X16_place_X17 (Nat.le_refl 0) e⟩) (Nat.le_trans (Nat.le_of_ble_eq_true rfl) hd) (Nat.le_of_ble_eq_true rfl) dX17_line_19 (fun v56 σ55 h => ?_)
        refine r_callUV (pc := 22) (As := [.int 4, .int v56]) (st := []) C h (fun _ e => ⟨_, _, _, _, _, _, Or.inr cu_X17_35_X16_bad_X17, t_X16_bad_X17 e, w_X16_bad_X17 (Nat.le_refl 0) e⟩) (Nat.le_trans (Nat.le_of_ble_eq_true rfl) hd) (Nat.le_of_ble_eq_true rfl) dX17_line_22 (fun σ57 h => ?_)
        refine r_pick (lv' := [(0, rv B a0)]) [0] rfl ?_
        exact hk4 _ h
theorem t_X17_line {F : Nat} {σ : MM} {a0 : Nat} {r : MM} (h : g_X17_line F σ a0 = some r) : mT σ a0 = (13, 8) := by
  unfold g_X17_line at h
  exact (r_ck h).1
def g_X16_isEnd_X17 (F : Nat) (σ : MM) (a0 : Nat) : Option (Int32 × MM) := if mT σ a0 = (13, 8) then ((gI σ a0 13 8 1).bind fun v1 => (gI σ a0 13 8 0).bind fun v2 => if v1 < v2 then (some (0, σ)) else (some (1, σ))) else none
theorem w_X16_isEnd_X17 {B F : Nat} {d : Nat} {σ : MM} {a0 : Nat} {rf : Int32} {σf : MM} (hd : 0 ≤ d) (h : g_X16_isEnd_X17 F σ a0 = some (rf, σf)) : xMA B yX16_isEnd cX16_isEnd 1 (some .boolean) d 0 0 [rv B a0] σ (some (.int rf)) σf := by
  refine xMA.of (by decide +kernel) (Nat.le_of_ble_eq_true rfl) (cat_rv cat_nil) (fun G C E => ?_)
  unfold g_X16_isEnd_X17 at h
  obtain ⟨-, h⟩ := r_ck h
  refine r_aload_n (pc := 0) (i := 0) C dX16_isEnd_0 rfl rfl ?_
  refine r_getI (pc := 1) C fd_X16_19_X17 rfl dX16_isEnd_1 h (fun v1 h => ?_)
  refine r_aload_n (pc := 4) (i := 0) C dX16_isEnd_4 rfl rfl ?_
  refine r_getI (pc := 5) C fd_X16_15_X17 rfl dX16_isEnd_5 h (fun v2 h => ?_)
  refine r_icmplt (pc := 8) (tgt := 15) C dX16_isEnd_8 (by decide) h (fun h => ?_) (fun h => ?_)
  · refine r_iconst (pc := 15) (v := 0) C dX16_isEnd_15 (by decide) ?_
    exact r_zretL (pc := 16) C rfl dX16_isEnd_16 (Or.inl rfl) h E
  · refine r_iconst (pc := 11) (v := 1) C dX16_isEnd_11 (by decide) ?_
    refine r_goto (pc := 12) (tgt := 16) C dX16_isEnd_12 (by decide) ?_
    exact r_zretL (pc := 16) C rfl dX16_isEnd_16 (Or.inr rfl) h E
theorem t_X16_isEnd_X17 {F : Nat} {σ : MM} {a0 : Nat} {r : Int32 × MM} (h : g_X16_isEnd_X17 F σ a0 = some r) : mT σ a0 = (13, 8) := by
  unfold g_X16_isEnd_X17 at h
  exact (r_ck h).1
theorem cu_X16_32_X16_isGood_X17 : xCU' RX16 32 yX16_isGood cX16_isGood 1 (some .boolean) 13 8 0 := ⟨by decide, by decide, _, ⟨"OneCoin$Scribe", "isGood", "()Z"⟩, "OneCoin$Scribe", rfl, lw_U q813 q1902 q1903 q782 q138 q783, ⟨by decide +kernel, by decide +kernel, by decide +kernel⟩, rfl⟩
def g_X16_answer_X17 (F : Nat) (σ : MM) (a0 : Nat) (x1 : Int32) : Option (Int32 × MM) := if mT σ a0 = (13, 8) then (bq (g_X16_isGood_X17 F σ a0) fun v2 σ1 => if v2 = 0 then ((gI σ1 a0 13 8 2).bind fun v3 => (gI σ1 a0 13 8 3).bind fun v4 => some ((((-1000) * v3) - v4), σ1)) else (some (x1, σ1))) else none
theorem w_X16_answer_X17 {B F : Nat} {d : Nat} {σ : MM} {a0 : Nat} {x1 : Int32} {rf : Int32} {σf : MM} (hd : 1 ≤ d) (h : g_X16_answer_X17 F σ a0 x1 = some (rf, σf)) : xMA B yX16_answer cX16_answer 2 (some .int) d 0 0 [rv B a0, .int x1] σ (some (.int rf)) σf := by
  refine xMA.of (by decide +kernel) (Nat.le_of_ble_eq_true rfl) (cat_rv (cat_int cat_nil)) (fun G C E => ?_)
  unfold g_X16_answer_X17 at h
  obtain ⟨-, h⟩ := r_ck h
  refine r_aload_n (pc := 0) (i := 0) C dX16_answer_0 rfl rfl ?_
  refine r_callUI (pc := 1) (As := []) (st := []) C h (fun _ _ e => ⟨_, _, _, _, _, _, Or.inr cu_X16_32_X16_isGood_X17, t_X16_isGood_X17 e, w_X16_isGood_X17 (Nat.le_refl 0) e⟩) (Nat.le_trans (Nat.le_of_ble_eq_true rfl) hd) (Nat.le_of_ble_eq_true rfl) dX16_answer_1 (fun v2 σ1 h => ?_)
  refine r_ifeq (pc := 4) (tgt := 11) C dX16_answer_4 (by decide) h (fun h => ?_) (fun h => ?_)
  · refine r_sipush (pc := 11) (v := (-1000)) C dX16_answer_11 (by decide) ?_
    refine r_aload_n (pc := 14) (i := 0) C dX16_answer_14 rfl rfl ?_
    refine r_getI (pc := 15) C fd_X16_26_X17 rfl dX16_answer_15 h (fun v3 h => ?_)
    refine r_imul (pc := 18) C dX16_answer_18 ?_
    refine r_aload_n (pc := 19) (i := 0) C dX16_answer_19 rfl rfl ?_
    refine r_getI (pc := 20) C fd_X16_29_X17 rfl dX16_answer_20 h (fun v4 h => ?_)
    refine r_isub (pc := 23) C dX16_answer_23 ?_
    exact r_iret (pc := 24) C rfl dX16_answer_24 h E
  · refine r_iload_n (pc := 7) (i := 1) C dX16_answer_7 rfl rfl ?_
    refine r_goto (pc := 8) (tgt := 24) C dX16_answer_8 (by decide) ?_
    exact r_iret (pc := 24) C rfl dX16_answer_24 h E
theorem t_X16_answer_X17 {F : Nat} {σ : MM} {a0 : Nat} {x1 : Int32} {r : Int32 × MM} (h : g_X16_answer_X17 F σ a0 x1 = some r) : mT σ a0 = (13, 8) := by
  unfold g_X16_answer_X17 at h
  exact (r_ck h).1
theorem yd_X17_line : xYd yX17_line 0 := ⟨by decide +kernel, by decide +kernel, by decide +kernel⟩
theorem cs_X17_73_X17_line : xCV RX17 73 yX17_line cX17_line 4 none 13 8 0 := ⟨by decide, by decide, _, rfl, yd_X17_line, Or.inl ⟨rfl, lw_V q729 q731 qs16 q139 q732⟩⟩
theorem cu_X17_76_X16_isEnd_X17 : xCU' RX17 76 yX16_isEnd cX16_isEnd 1 (some .boolean) 13 8 0 := ⟨by decide, by decide, _, ⟨"OneCoin$Clerk", "isEnd", "()Z"⟩, "OneCoin$Scribe", rfl, lw_U q793 q794 q796 q797 q138 q798, ⟨by decide +kernel, by decide +kernel, by decide +kernel⟩, rfl⟩
theorem yd_X4_all : xYd yX4_all 0 := ⟨by decide +kernel, by decide +kernel, by decide +kernel⟩
theorem cs_X17_79_X4_all : xCV RX17 79 yX4_all cX4_all 3 (some .int) 3 1 0 := ⟨by decide, by decide, _, rfl, yd_X4_all, Or.inl ⟨rfl, lw_V q799 q800 q801 q120 q802⟩⟩
theorem cu_X17_82_X16_answer_X17 : xCU' RX17 82 yX16_answer cX16_answer 2 (some .int) 13 8 1 := ⟨by decide, by decide, _, ⟨"OneCoin$Clerk", "answer", "(I)I"⟩, "OneCoin$Scribe", rfl, lw_U q807 q808 q810 q811 q138 q812, ⟨by decide +kernel, by decide +kernel, by decide +kernel⟩, rfl⟩
def l_X17_read_4 (K : MM → Option (Int32 × MM)) (F : Nat) (a0 : Nat) : Nat → MM → Option (Int32 × MM)
  | 0, _ => none
  | f + 1, σ => bq (g_X16_isGood_X17 F σ a0) fun v3 σ2 => if v3 = 0 then (K σ2) else (bq (g_X16_isEnd_X17 F σ2 a0) fun v5 σ4 => if v5 = 0 then (bq (g_X16_here_X17 F σ4 a0) fun v7 σ6 => jn (fun  (σ8 : MM) => (g_X16_goes_X17 F σ8 a0).bind fun σ10 => bq (g_X16_isGood_X17 F σ10 a0) fun v12 σ11 => if v12 = 0 then (l_X17_read_4 K F a0 f σ11) else ((g_X17_line F σ11 a0).bind fun σ13 => l_X17_read_4 K F a0 f σ13)) (fun k9 => if v7 = 59 then (k9 σ6) else (bq (g_X16_place_X17 F σ6 a0) fun v15 σ14 => (g_X16_bad_X17 F σ14 a0 1 v15).bind fun σ16 => k9 σ16))) else (K σ4))
def g_X17_read (F : Nat) (σ : MM) (a0 : Nat) : Option (Int32 × MM) := if mT σ a0 = (13, 8) then ((g_X17_line F σ a0).bind fun σ1 => l_X17_read_4 (fun (σ17 : MM) => (gP σ17 a0 13 8 5).bind fun p18 => bq (g_X4_all F σ17 p18) fun v20 σ19 => bq (g_X16_answer_X17 F σ19 a0 v20) fun v22 σ21 => some (v22, σ21)) F a0 F σ1) else none
theorem wl_X17_read_4 {B : Nat} {G : XG} {d : Nat} {rf : Int32} {σf : MM} (hd : 5 ≤ d) (C : xC B G yX17_read cX17_read 1 (some .int) d 0 0) (E : xEnd B G (some (.int rf)) σf 0 0) {K : MM → Option (Int32 × MM)} {F : Nat} {a0 : Nat} (hK : ∀ (σ : MM), K σ = some (rf, σf) → xV B G 0 0 σ 54 [(0, rv B a0)] []) : ∀ (f : Nat) (σ : MM), l_X17_read_4 K F a0 f σ = some (rf, σf) → xV B G 0 0 σ 4 [(0, rv B a0)] [] := by
  intro f
  induction f with
  | zero =>
    intro σ h
    have h : none = some (rf, σf) := h
    cases h
  | succ f ih =>
    intro σ h
    rw [l_X17_read_4.eq_2] at h
    refine r_aload_n (pc := 4) (i := 0) C dX17_read_4 rfl rfl ?_
    refine r_callUI (pc := 5) (As := []) (st := []) C h (fun _ _ e => ⟨_, _, _, _, _, _, Or.inr cu_X17_57_X16_isGood_X17, t_X16_isGood_X17 e, w_X16_isGood_X17 (Nat.le_refl 0) e⟩) (Nat.le_trans (Nat.le_of_ble_eq_true rfl) hd) (Nat.le_of_ble_eq_true rfl) dX17_read_5 (fun v3 σ2 h => ?_)
    refine r_ifeq (pc := 8) (tgt := 54) C dX17_read_8 (by decide) h (fun h => ?_) (fun h => ?_)
    · refine r_pick (lv' := [(0, rv B a0)]) [0] rfl ?_
      exact hK _ h
    · refine r_aload_n (pc := 11) (i := 0) C dX17_read_11 rfl rfl ?_
      refine r_callUI (pc := 12) (As := []) (st := []) C h (fun _ _ e => ⟨_, _, _, _, _, _, Or.inr cu_X17_76_X16_isEnd_X17, t_X16_isEnd_X17 e, w_X16_isEnd_X17 (Nat.le_refl 0) e⟩) (Nat.le_trans (Nat.le_of_ble_eq_true rfl) hd) (Nat.le_of_ble_eq_true rfl) dX17_read_12 (fun v5 σ4 h => ?_)
      refine r_ifne (pc := 15) (tgt := 54) C dX17_read_15 (by decide) h (fun h => ?_) (fun h => ?_)
      · refine r_pick (lv' := [(0, rv B a0)]) [0] rfl ?_
        exact hK _ h
      · refine r_aload_n (pc := 18) (i := 0) C dX17_read_18 rfl rfl ?_
        refine r_callUI (pc := 19) (As := []) (st := []) C h (fun _ _ e => ⟨_, _, _, _, _, _, Or.inr cu_X17_24_X16_here_X17, t_X16_here_X17 e, w_X16_here_X17 (Nat.le_refl 0) e⟩) (Nat.le_trans (Nat.le_of_ble_eq_true rfl) hd) (Nat.le_of_ble_eq_true rfl) dX17_read_19 (fun v7 σ6 h => ?_)
        refine r_bipush (pc := 22) (v := 59) C dX17_read_22 (by decide) ?_
        refine r_jn (fun k9 => ∀  (σ8 : MM), k9 σ8 = some (rf, σf) → xV B G 0 0 σ8 36 [(0, rv B a0)] []) h (fun  σ8 h => ?_) (fun k9 hk9 h => ?_)
        · refine r_aload_n (pc := 36) (i := 0) C dX17_read_36 rfl rfl ?_
          refine r_callUV (pc := 37) (As := []) (st := []) C h (fun _ e => ⟨_, _, _, _, _, _, Or.inr cu_X17_47_X16_goes_X17, t_X16_goes_X17 e, w_X16_goes_X17 (Nat.le_refl 0) e⟩) (Nat.le_trans (Nat.le_of_ble_eq_true rfl) hd) (Nat.le_of_ble_eq_true rfl) dX17_read_37 (fun σ10 h => ?_)
          refine r_aload_n (pc := 40) (i := 0) C dX17_read_40 rfl rfl ?_
          refine r_callUI (pc := 41) (As := []) (st := []) C h (fun _ _ e => ⟨_, _, _, _, _, _, Or.inr cu_X17_57_X16_isGood_X17, t_X16_isGood_X17 e, w_X16_isGood_X17 (Nat.le_refl 0) e⟩) (Nat.le_trans (Nat.le_of_ble_eq_true rfl) hd) (Nat.le_of_ble_eq_true rfl) dX17_read_41 (fun v12 σ11 h => ?_)
          refine r_ifeq (pc := 44) (tgt := 4) C dX17_read_44 (by decide) h (fun h => ?_) (fun h => ?_)
          · refine r_pick (lv' := [(0, rv B a0)]) [0] rfl ?_
            exact ih _ h
          · refine r_aload_n (pc := 47) (i := 0) C dX17_read_47 rfl rfl ?_
            refine r_callVV (pc := 48) (As := []) (st := []) C cs_X17_73_X17_line h (fun _ e => w_X17_line (Nat.le_refl 4) e) (fun _ e => t_X17_line e) (Nat.le_trans (Nat.le_of_ble_eq_true rfl) hd) (Nat.le_of_ble_eq_true rfl) dX17_read_48 (fun σ13 h => ?_)
            refine r_goto (pc := 51) (tgt := 4) C dX17_read_51 (by decide) ?_
            refine r_pick (lv' := [(0, rv B a0)]) [0] rfl ?_
            exact ih _ h
        · refine r_icmpeq (pc := 24) (tgt := 36) C dX17_read_24 (by decide) h (fun h => ?_) (fun h => ?_)
          · refine r_pick (lv' := [(0, rv B a0)]) [0] rfl ?_
            exact hk9 _ h
          · refine r_aload_n (pc := 27) (i := 0) C dX17_read_27 rfl rfl ?_
            refine r_iconst (pc := 28) (v := 1) C dX17_read_28 (by decide) ?_
            refine r_aload_n (pc := 29) (i := 0) C dX17_read_29 rfl rfl ?_
            refine r_callUI (pc := 30) (As := []) (st := [.int 1, rv B a0]) C h (fun _ _ e => ⟨_, _, _, _, _, _, Or.inr cu_X17_32_X16_place_X17, t_X16_place_X17 e, w_X16_place_X17 (Nat.le_refl 0) e⟩) (Nat.le_trans (Nat.le_of_ble_eq_true rfl) hd) (Nat.le_of_ble_eq_true rfl) dX17_read_30 (fun v15 σ14 h => ?_)
            refine r_callUV (pc := 33) (As := [.int 1, .int v15]) (st := []) C h (fun _ e => ⟨_, _, _, _, _, _, Or.inr cu_X17_35_X16_bad_X17, t_X16_bad_X17 e, w_X16_bad_X17 (Nat.le_refl 0) e⟩) (Nat.le_trans (Nat.le_of_ble_eq_true rfl) hd) (Nat.le_of_ble_eq_true rfl) dX17_read_33 (fun σ16 h => ?_)
            refine r_pick (lv' := [(0, rv B a0)]) [0] rfl ?_
            exact hk9 _ h
theorem w_X17_read {B F : Nat} {d : Nat} {σ : MM} {a0 : Nat} {rf : Int32} {σf : MM} (hd : 5 ≤ d) (h : g_X17_read F σ a0 = some (rf, σf)) : xMA B yX17_read cX17_read 1 (some .int) d 0 0 [rv B a0] σ (some (.int rf)) σf := by
  refine xMA.of (by decide +kernel) (Nat.le_of_ble_eq_true rfl) (cat_rv cat_nil) (fun G C E => ?_)
  unfold g_X17_read at h
  obtain ⟨-, h⟩ := r_ck h
  refine r_aload_n (pc := 0) (i := 0) C dX17_read_0 rfl rfl ?_
  refine r_callVV (pc := 1) (As := []) (st := []) C cs_X17_73_X17_line h (fun _ e => w_X17_line (Nat.le_refl 4) e) (fun _ e => t_X17_line e) (Nat.le_trans (Nat.le_of_ble_eq_true rfl) hd) (Nat.le_of_ble_eq_true rfl) dX17_read_1 (fun σ1 h => ?_)
  refine r_pick (lv' := [(0, rv B a0)]) [0] rfl ?_
  refine wl_X17_read_4 hd C E (fun  σ17 h => ?_) _ _ h
  refine r_aload_n (pc := 54) (i := 0) C dX17_read_54 rfl rfl ?_
  refine r_aload_n (pc := 55) (i := 0) C dX17_read_55 rfl rfl ?_
  refine r_getP (pc := 56) C fd_X17_20 rfl dX17_read_56 h (fun p18 h => ?_)
  refine r_callVI (pc := 59) (As := []) (st := [rv B a0]) C cs_X17_79_X4_all h (fun _ _ e => w_X4_all (Nat.le_refl 1) e) (fun _ _ e => t_X4_all e) (Nat.le_trans (Nat.le_of_ble_eq_true rfl) hd) (Nat.le_of_ble_eq_true rfl) dX17_read_59 (fun v20 σ19 h => ?_)
  refine r_callUI (pc := 62) (As := [.int v20]) (st := []) C h (fun _ _ e => ⟨_, _, _, _, _, _, Or.inr cu_X17_82_X16_answer_X17, t_X16_answer_X17 e, w_X16_answer_X17 (Nat.le_refl 1) e⟩) (Nat.le_trans (Nat.le_of_ble_eq_true rfl) hd) (Nat.le_of_ble_eq_true rfl) dX17_read_62 (fun v22 σ21 h => ?_)
  exact r_iret (pc := 65) C rfl dX17_read_65 h E
theorem t_X17_read {F : Nat} {σ : MM} {a0 : Nat} {r : Int32 × MM} (h : g_X17_read F σ a0 = some r) : mT σ a0 = (13, 8) := by
  unfold g_X17_read at h
  exact (r_ck h).1
theorem xcl_X17 : xCl 13 8 RX17 := classCl _ rfl rfl rfl (by decide) in_X17 tyX17_ok (by decide +kernel)
theorem yd_X17_init : xYd yX17_init 2 := ⟨by decide +kernel, by decide +kernel, by decide +kernel⟩
theorem cs_X0_164_X17_init : xCI RX0 164 yX17_init cX17_init 3 2 := ⟨by decide, rfl, yd_X17_init, lw_meth q692, q139, q691, Or.inl q690⟩
theorem yd_X17_read : xYd yX17_read 0 := ⟨by decide +kernel, by decide +kernel, by decide +kernel⟩
theorem cs_X0_165_X17_read : xCV RX0 165 yX17_read cX17_read 1 (some .int) 13 8 0 := ⟨by decide, by decide, _, rfl, yd_X17_read, Or.inl ⟨rfl, lw_V q725 q726 q727 q139 q728⟩⟩
theorem fd_X0_166 : xFg RX0 166 13 8 5 := ⟨_, rfl, rfl, by decide, by decide, in_X17, Or.inr ⟨_, in_nest q700 rfl⟩⟩
theorem cs_X0_167_X4_takes : xCV RX0 167 yX4_takes cX4_takes 4 (some (.object "OneCoin$Debts")) 3 1 1 := ⟨by decide, by decide, _, rfl, yd_X4_takes, Or.inl ⟨rfl, lw_V q814 q815 q816 q120 q817⟩⟩
def g_X0_debts (F : Nat) (σ : MM) (a0 : Nat) (x1 : Int32) : Option (Int32 × MM) := if mT σ a0 = (0, 22) then (bq (g_X0_within F σ x1 1 160) fun v2 σ1 => if v2 = 0 then (some ((-1), σ1)) else ((gI σ1 a0 0 22 9).bind fun v3 => if v3 < x1 then (some ((-1), σ1)) else ((pI σ1 a0 0 22 9 0).bind fun σ4 => nw σ4 (13, 8) fun p5 σ6 => (g_X17_init F σ6 p5 a0 x1).bind fun σ7 => bq (g_X17_read F σ7 p5) fun v9 σ8 => if v9 < 0 then (some (v9, σ8)) else ((gP σ8 a0 0 22 4).bind fun p10 => (gP σ8 p10 2 16 0).bind fun p11 => (gP σ8 p5 13 8 5).bind fun p12 => bq (g_X4_takes F σ8 p11 p12) fun p14 σ13 => some (v9, σ13))))) else none
theorem w_X0_debts {B F : Nat} {d : Nat} {σ : MM} {a0 : Nat} {x1 : Int32} {rf : Int32} {σf : MM} (hd : 6 ≤ d) (h : g_X0_debts F σ a0 x1 = some (rf, σf)) : xMA B yX0_debts cX0_debts 5 (some .int) d 13 119 [rv B a0, .int x1] σ (some (.int rf)) σf := by
  refine xMA.of (by decide +kernel) (Nat.le_of_ble_eq_true rfl) (cat_rv (cat_int cat_nil)) (fun G C E => ?_)
  unfold g_X0_debts at h
  obtain ⟨-, h⟩ := r_ck h
  refine r_iload_n (pc := 0) (i := 1) C dX0_debts_0 rfl rfl ?_
  refine r_iconst (pc := 1) (v := 1) C dX0_debts_1 (by decide) ?_
  refine r_sipush (pc := 2) (v := 160) C dX0_debts_2 (by decide) ?_
  refine r_callSI (pc := 5) (As := [.int x1, .int 1, .int 160]) (st := []) C cs_X0_127_X0_within h (fun _ _ e => w_X0_within (Nat.le_refl 0) e) (Nat.le_trans (Nat.le_of_ble_eq_true rfl) hd) (Nat.le_of_ble_eq_true rfl) dX0_debts_5 (fun v2 σ1 h => ?_)
  refine r_ifeq (pc := 8) (tgt := 19) C dX0_debts_8 (by decide) h (fun h => ?_) (fun h => ?_)
  · refine r_iconst (pc := 19) (v := (-1)) C dX0_debts_19 (by decide) ?_
    refine r_widen (k' := 13) (n' := 119) (Nat.le_of_ble_eq_true rfl) (Nat.le_of_ble_eq_true rfl) ?_
    exact r_iret (pc := 20) C rfl dX0_debts_20 h E
  · refine r_iload_n (pc := 11) (i := 1) C dX0_debts_11 rfl rfl ?_
    refine r_aload_n (pc := 12) (i := 0) C dX0_debts_12 rfl rfl ?_
    refine r_getI (pc := 13) C fd_X0_143 rfl dX0_debts_13 h (fun v3 h => ?_)
    refine r_icmple (pc := 16) (tgt := 21) C dX0_debts_16 (by decide) h (fun h => ?_) (fun h => ?_)
    · refine r_aload_n (pc := 21) (i := 0) C dX0_debts_21 rfl rfl ?_
      refine r_iconst (pc := 22) (v := 0) C dX0_debts_22 (by decide) ?_
      refine r_putI (pc := 23) C fd_X0_143 ft_X0_9 dX0_debts_23 h (fun σ4 h => ?_)
      refine r_newB (pc := 26) C xcl_X17 q688 q689 q139 dX0_debts_26 (Nat.le_of_ble_eq_true rfl) (Nat.le_of_ble_eq_true rfl) rfl rfl h (fun p5 σ6 h => ?_)
      refine r_dup (pc := 29) C dX0_debts_29 ?_
      refine r_aload_n (pc := 30) (i := 0) C dX0_debts_30 rfl rfl ?_
      refine r_iload_n (pc := 31) (i := 1) C dX0_debts_31 rfl rfl ?_
      refine r_callI (pc := 32) (As := [rv B a0, .int x1]) (st := [rv B p5]) C cs_X0_164_X17_init h (fun _ e => w_X17_init (Nat.le_refl 2) e) (fun _ e => by rw [t_X17_init e]; decide) (Nat.le_trans (Nat.le_of_ble_eq_true rfl) hd) (Nat.le_of_ble_eq_true rfl) (Nat.le_of_ble_eq_true rfl) rfl rfl (Nat.le_of_ble_eq_true rfl) dX0_debts_32 (fun σ7 h => ?_)
      refine r_astore_n (pc := 35) (i := 2) C dX0_debts_35 rfl (by decide) ?_
      refine r_aload_n (pc := 36) (i := 2) C dX0_debts_36 rfl rfl ?_
      refine r_callVI (pc := 37) (As := []) (st := []) C cs_X0_165_X17_read h (fun _ _ e => w_X17_read (Nat.le_refl 5) e) (fun _ _ e => t_X17_read e) (Nat.le_trans (Nat.le_of_ble_eq_true rfl) hd) (Nat.le_of_ble_eq_true rfl) dX0_debts_37 (fun v9 σ8 h => ?_)
      refine r_istore_n (pc := 40) (i := 3) C dX0_debts_40 rfl (by decide) ?_
      refine r_iload_n (pc := 41) (i := 3) C dX0_debts_41 rfl rfl ?_
      refine r_ifge (pc := 42) (tgt := 47) C dX0_debts_42 (by decide) h (fun h => ?_) (fun h => ?_)
      · refine r_aload_n (pc := 47) (i := 0) C dX0_debts_47 rfl rfl ?_
        refine r_getP (pc := 48) C fd_X0_66 rfl dX0_debts_48 h (fun p10 h => ?_)
        refine r_getP (pc := 51) C fd_X0_131 rfl dX0_debts_51 h (fun p11 h => ?_)
        refine r_aload_n (pc := 54) (i := 2) C dX0_debts_54 rfl rfl ?_
        refine r_getP (pc := 55) C fd_X0_166 rfl dX0_debts_55 h (fun p12 h => ?_)
        refine r_callVP (pc := 58) (As := [rv B p12]) (st := []) C cs_X0_167_X4_takes h (fun _ _ e => w_X4_takes (Nat.le_refl 0) e) (fun _ _ e => t_X4_takes e) (Nat.le_trans (Nat.le_of_ble_eq_true rfl) hd) (Nat.le_of_ble_eq_true rfl) dX0_debts_58 (fun p14 σ13 h => ?_)
        refine r_astore (pc := 61) (i := 4) C dX0_debts_61 (by decide) ?_
        refine r_iload_n (pc := 63) (i := 3) C dX0_debts_63 rfl rfl ?_
        exact r_iret (pc := 64) C rfl dX0_debts_64 h E
      · refine r_iload_n (pc := 45) (i := 3) C dX0_debts_45 rfl rfl ?_
        exact r_iret (pc := 46) C rfl dX0_debts_46 h E
    · refine r_iconst (pc := 19) (v := (-1)) C dX0_debts_19 (by decide) ?_
      refine r_widen (k' := 13) (n' := 119) (Nat.le_of_ble_eq_true rfl) (Nat.le_of_ble_eq_true rfl) ?_
      exact r_iret (pc := 20) C rfl dX0_debts_20 h E
theorem t_X0_debts {F : Nat} {σ : MM} {a0 : Nat} {x1 : Int32} {r : Int32 × MM} (h : g_X0_debts F σ a0 x1 = some r) : mT σ a0 = (0, 22) := by
  unfold g_X0_debts at h
  exact (r_ck h).1
theorem fd_X16_3_X18 : xFg RX16 3 14 9 4 := ⟨_, rfl, rfl, by decide, by decide, in_X18, Or.inl q707⟩
theorem ft_X18_4 : xFt 14 4 (.object "OneCoin") true := ⟨_, rfl, by decide +kernel, rfl, rfl⟩
theorem fc_X16_3_X18 : xFc RX16 3 14 4 := ⟨⟨_, rfl, rfl⟩, _, rfl, q707⟩
theorem fd_X16_15_X18 : xFg RX16 15 14 9 0 := ⟨_, rfl, rfl, by decide, by decide, in_X18, Or.inl q703⟩
theorem ft_X18_0 : xFt 14 0 .int true := ⟨_, rfl, by decide +kernel, rfl, rfl⟩
theorem fc_X16_15_X18 : xFc RX16 15 14 0 := ⟨⟨_, rfl, rfl⟩, _, rfl, q703⟩
def g_X16_init_X18 (F : Nat) (σ : MM) (a0 : Nat) (a1 : Nat) (x2 : Int32) : Option (MM) := if mT σ a0 = (14, 9) then ((pP σ a0 14 9 4 a1).bind fun σ1 => if (mT σ1 a0).1 ≠ 99 then ((pI σ1 a0 14 9 0 x2).bind fun σ3 => some σ3) else none) else none
theorem w_X16_init_X18 {B F : Nat} {d : Nat} {σ : MM} {a0 : Nat} {a1 : Nat} {x2 : Int32} {σf : MM} (hd : 1 ≤ d) (h : g_X16_init_X18 F σ a0 a1 x2 = some σf) : xMA B yX16_init cX16_init 3 none d 0 0 [rv B a0, rv B a1, .int x2] σ none σf := by
  refine xMA.of (by decide +kernel) (Nat.le_of_ble_eq_true rfl) (cat_rv (cat_rv (cat_int cat_nil))) (fun G C E => ?_)
  unfold g_X16_init_X18 at h
  obtain ⟨-, h⟩ := r_ck h
  refine r_aload_n (pc := 0) (i := 0) C dX16_init_0 rfl rfl ?_
  refine r_aload_n (pc := 1) (i := 1) C dX16_init_1 rfl rfl ?_
  refine r_putPF (pc := 2) C rfl fd_X16_3_X18 fc_X16_3_X18 ft_X18_4 (Or.inl ⟨_, rfl⟩) dX16_init_2 h (fun σ1 h => ?_)
  refine r_aload_n (pc := 5) (i := 0) C dX16_init_5 rfl rfl ?_
  refine r_objI (pc := 6) C q696 q148 q149 (Nat.le_trans (Nat.le_of_ble_eq_true rfl) hd) (Nat.le_of_ble_eq_true rfl) dX16_init_6 h (fun h => ?_)
  refine r_aload_n (pc := 9) (i := 0) C dX16_init_9 rfl rfl ?_
  refine r_iload_n (pc := 10) (i := 2) C dX16_init_10 rfl rfl ?_
  refine r_putIF (pc := 11) C rfl fd_X16_15_X18 fc_X16_15_X18 ft_X18_0 dX16_init_11 h (fun σ3 h => ?_)
  exact r_vret (pc := 14) C rfl dX16_init_14 h E
theorem t_X16_init_X18 {F : Nat} {σ : MM} {a0 : Nat} {a1 : Nat} {x2 : Int32} {r : MM} (h : g_X16_init_X18 F σ a0 a1 x2 = some r) : mT σ a0 = (14, 9) := by
  unfold g_X16_init_X18 at h
  exact (r_ck h).1
theorem fd_X18_3 : xFg RX18 3 14 9 8 := ⟨_, rfl, rfl, by decide, by decide, in_X18, Or.inl q832⟩
theorem ft_X18_8 : xFt 14 8 (.object "OneCoin") true := ⟨_, rfl, by decide +kernel, rfl, rfl⟩
theorem fc_X18_3 : xFc RX18 3 14 8 := ⟨⟨_, rfl, rfl⟩, _, rfl, q832⟩
theorem cs_X18_9_X16_init : xCI RX18 9 yX16_init cX16_init 3 2 := ⟨by decide, rfl, yd_X16_init, lw_meth q695, q138, q694, Or.inl q827⟩
theorem fd_X18_15 : xFg RX18 15 14 9 5 := ⟨_, rfl, rfl, by decide, by decide, in_X18, Or.inl q828⟩
theorem ft_X18_5 : xFt 14 5 (.array .int) true := ⟨_, rfl, by decide +kernel, rfl, rfl⟩
theorem fc_X18_15 : xFc RX18 15 14 5 := ⟨⟨_, rfl, rfl⟩, _, rfl, q828⟩
def g_X18_init (F : Nat) (σ : MM) (a0 : Nat) (a1 : Nat) (x2 : Int32) : Option (MM) := if mT σ a0 = (14, 9) then ((pP σ a0 14 9 8 a1).bind fun σ1 => (g_X16_init_X18 F σ1 a0 a1 x2).bind fun σ2 => nw σ2 (20, 60) fun p3 σ4 => (pP σ4 a0 14 9 5 p3).bind fun σ5 => some σ5) else none
theorem w_X18_init {B F : Nat} {d : Nat} {σ : MM} {a0 : Nat} {a1 : Nat} {x2 : Int32} {σf : MM} (hd : 2 ≤ d) (h : g_X18_init F σ a0 a1 x2 = some σf) : xMA B yX18_init cX18_init 3 none d 1 60 [rv B a0, rv B a1, .int x2] σ none σf := by
  refine xMA.of (by decide +kernel) (Nat.le_of_ble_eq_true rfl) (cat_rv (cat_rv (cat_int cat_nil))) (fun G C E => ?_)
  unfold g_X18_init at h
  obtain ⟨-, h⟩ := r_ck h
  refine r_aload_n (pc := 0) (i := 0) C dX18_init_0 rfl rfl ?_
  refine r_aload_n (pc := 1) (i := 1) C dX18_init_1 rfl rfl ?_
  refine r_putPF (pc := 2) C rfl fd_X18_3 fc_X18_3 ft_X18_8 (Or.inl ⟨_, rfl⟩) dX18_init_2 h (fun σ1 h => ?_)
  refine r_aload_n (pc := 5) (i := 0) C dX18_init_5 rfl rfl ?_
  refine r_aload_n (pc := 6) (i := 1) C dX18_init_6 rfl rfl ?_
  refine r_iload_n (pc := 7) (i := 2) C dX18_init_7 rfl rfl ?_
  refine r_callI (pc := 8) (As := [rv B a1, .int x2]) (st := []) C cs_X18_9_X16_init h (fun _ e => w_X16_init_X18 (Nat.le_refl 1) e) (fun _ e => by rw [t_X16_init_X18 e]; decide) (Nat.le_trans (Nat.le_of_ble_eq_true rfl) hd) (Nat.le_of_ble_eq_true rfl) (Nat.le_of_ble_eq_true rfl) rfl rfl (Nat.le_of_ble_eq_true rfl) dX18_init_8 (fun σ2 h => ?_)
  refine r_aload_n (pc := 11) (i := 0) C dX18_init_11 rfl rfl ?_
  refine r_bipush (pc := 12) (v := 60) C dX18_init_12 (by decide) ?_
  refine r_newaB (pc := 14) (t := 0) (atype := .int) C (by decide) rfl q192 dX18_init_14 (by decide) (N := 60) (by decide +kernel) (Nat.le_of_ble_eq_true rfl) (Nat.le_of_ble_eq_true rfl) (Nat.le_of_ble_eq_true rfl) rfl rfl h (fun p3 σ4 h => ?_)
  refine r_putPF (pc := 16) C rfl fd_X18_15 fc_X18_15 ft_X18_5 (Or.inr ⟨_, rfl⟩) dX18_init_16 h (fun σ5 h => ?_)
  exact r_vret (pc := 19) C rfl dX18_init_19 h E
theorem t_X18_init {F : Nat} {σ : MM} {a0 : Nat} {a1 : Nat} {x2 : Int32} {r : MM} (h : g_X18_init F σ a0 a1 x2 = some r) : mT σ a0 = (14, 9) := by
  unfold g_X18_init at h
  exact (r_ck h).1
theorem fd_X16_19_X18 : xFg RX16 19 14 9 1 := ⟨_, rfl, rfl, by decide, by decide, in_X18, Or.inl q704⟩
theorem ft_X18_1 : xFt 14 1 .int false := ⟨_, rfl, by decide +kernel, rfl, rfl⟩
def g_X16_place_X18 (F : Nat) (σ : MM) (a0 : Nat) : Option (Int32 × MM) := if mT σ a0 = (14, 9) then ((gI σ a0 14 9 1).bind fun v1 => some (v1, σ)) else none
theorem w_X16_place_X18 {B F : Nat} {d : Nat} {σ : MM} {a0 : Nat} {rf : Int32} {σf : MM} (hd : 0 ≤ d) (h : g_X16_place_X18 F σ a0 = some (rf, σf)) : xMA B yX16_place cX16_place 1 (some .int) d 0 0 [rv B a0] σ (some (.int rf)) σf := by
  refine xMA.of (by decide +kernel) (Nat.le_of_ble_eq_true rfl) (cat_rv cat_nil) (fun G C E => ?_)
  unfold g_X16_place_X18 at h
  obtain ⟨-, h⟩ := r_ck h
  refine r_aload_n (pc := 0) (i := 0) C dX16_place_0 rfl rfl ?_
  refine r_getI (pc := 1) C fd_X16_19_X18 rfl dX16_place_1 h (fun v1 h => ?_)
  exact r_iret (pc := 4) C rfl dX16_place_4 h E
theorem t_X16_place_X18 {F : Nat} {σ : MM} {a0 : Nat} {r : Int32 × MM} (h : g_X16_place_X18 F σ a0 = some r) : mT σ a0 = (14, 9) := by
  unfold g_X16_place_X18 at h
  exact (r_ck h).1
theorem fd_X16_22_X18 : xFg RX16 22 0 22 7 := ⟨_, rfl, rfl, by decide, by decide, in_X0, Or.inr ⟨_, in_nest q320 rfl⟩⟩
def g_X16_here_X18 (F : Nat) (σ : MM) (a0 : Nat) : Option (Int32 × MM) := if mT σ a0 = (14, 9) then ((gI σ a0 14 9 1).bind fun v1 => (gI σ a0 14 9 0).bind fun v2 => if v1 < v2 then ((gP σ a0 14 9 4).bind fun p3 => (gP σ p3 0 22 7).bind fun p4 => (gI σ a0 14 9 1).bind fun v5 => (aI σ p4 21 v5).bind fun v6 => some ((v6 &&& 255), σ)) else (some (0, σ))) else none
theorem w_X16_here_X18 {B F : Nat} {d : Nat} {σ : MM} {a0 : Nat} {rf : Int32} {σf : MM} (hd : 0 ≤ d) (h : g_X16_here_X18 F σ a0 = some (rf, σf)) : xMA B yX16_here cX16_here 1 (some .int) d 0 0 [rv B a0] σ (some (.int rf)) σf := by
  refine xMA.of (by decide +kernel) (Nat.le_of_ble_eq_true rfl) (cat_rv cat_nil) (fun G C E => ?_)
  unfold g_X16_here_X18 at h
  obtain ⟨-, h⟩ := r_ck h
  refine r_aload_n (pc := 0) (i := 0) C dX16_here_0 rfl rfl ?_
  refine r_getI (pc := 1) C fd_X16_19_X18 rfl dX16_here_1 h (fun v1 h => ?_)
  refine r_aload_n (pc := 4) (i := 0) C dX16_here_4 rfl rfl ?_
  refine r_getI (pc := 5) C fd_X16_15_X18 rfl dX16_here_5 h (fun v2 h => ?_)
  refine r_icmpge (pc := 8) (tgt := 30) C dX16_here_8 (by decide) h (fun h => ?_) (fun h => ?_)
  · refine r_iconst (pc := 30) (v := 0) C dX16_here_30 (by decide) ?_
    exact r_iret (pc := 31) C rfl dX16_here_31 h E
  · refine r_aload_n (pc := 11) (i := 0) C dX16_here_11 rfl rfl ?_
    refine r_getP (pc := 12) C fd_X16_3_X18 rfl dX16_here_12 h (fun p3 h => ?_)
    refine r_getP (pc := 15) C fd_X16_22_X18 rfl dX16_here_15 h (fun p4 h => ?_)
    refine r_aload_n (pc := 18) (i := 0) C dX16_here_18 rfl rfl ?_
    refine r_getI (pc := 19) C fd_X16_19_X18 rfl dX16_here_19 h (fun v5 h => ?_)
    refine r_bald (pc := 22) C dX16_here_22 h (fun v6 h => ?_)
    refine r_sipush (pc := 23) (v := 255) C dX16_here_23 (by decide) ?_
    refine r_iand (pc := 26) C dX16_here_26 ?_
    refine r_goto (pc := 27) (tgt := 31) C dX16_here_27 (by decide) ?_
    exact r_iret (pc := 31) C rfl dX16_here_31 h E
theorem t_X16_here_X18 {F : Nat} {σ : MM} {a0 : Nat} {r : Int32 × MM} (h : g_X16_here_X18 F σ a0 = some r) : mT σ a0 = (14, 9) := by
  unfold g_X16_here_X18 at h
  exact (r_ck h).1
theorem cu_X16_36_X16_here_X18 : xCU' RX16 36 yX16_here cX16_here 1 (some .int) 14 9 0 := ⟨by decide, by decide, _, ⟨"OneCoin$Scribe", "here", "()I"⟩, "OneCoin$Scribe", rfl, lw_U q745 q747 q749 q746 q138 q750, ⟨by decide +kernel, by decide +kernel, by decide +kernel⟩, rfl⟩
def g_X16_sees_X18 (F : Nat) (σ : MM) (a0 : Nat) (x1 : Int32) (x2 : Int32) : Option (Int32 × MM) := if mT σ a0 = (14, 9) then (bq (g_X16_here_X18 F σ a0) fun v2 σ1 => if v2 < x1 then (some (0, σ1)) else (bq (g_X16_here_X18 F σ1 a0) fun v4 σ3 => if x2 < v4 then (some (0, σ3)) else (some (1, σ3)))) else none
theorem w_X16_sees_X18 {B F : Nat} {d : Nat} {σ : MM} {a0 : Nat} {x1 : Int32} {x2 : Int32} {rf : Int32} {σf : MM} (hd : 1 ≤ d) (h : g_X16_sees_X18 F σ a0 x1 x2 = some (rf, σf)) : xMA B yX16_sees cX16_sees 3 (some .boolean) d 0 0 [rv B a0, .int x1, .int x2] σ (some (.int rf)) σf := by
  refine xMA.of (by decide +kernel) (Nat.le_of_ble_eq_true rfl) (cat_rv (cat_int (cat_int cat_nil))) (fun G C E => ?_)
  unfold g_X16_sees_X18 at h
  obtain ⟨-, h⟩ := r_ck h
  refine r_aload_n (pc := 0) (i := 0) C dX16_sees_0 rfl rfl ?_
  refine r_callUI (pc := 1) (As := []) (st := []) C h (fun _ _ e => ⟨_, _, _, _, _, _, Or.inr cu_X16_36_X16_here_X18, t_X16_here_X18 e, w_X16_here_X18 (Nat.le_refl 0) e⟩) (Nat.le_trans (Nat.le_of_ble_eq_true rfl) hd) (Nat.le_of_ble_eq_true rfl) dX16_sees_1 (fun v2 σ1 h => ?_)
  refine r_iload_n (pc := 4) (i := 1) C dX16_sees_4 rfl rfl ?_
  refine r_icmplt (pc := 5) (tgt := 20) C dX16_sees_5 (by decide) h (fun h => ?_) (fun h => ?_)
  · refine r_iconst (pc := 20) (v := 0) C dX16_sees_20 (by decide) ?_
    exact r_zretL (pc := 21) C rfl dX16_sees_21 (Or.inl rfl) h E
  · refine r_aload_n (pc := 8) (i := 0) C dX16_sees_8 rfl rfl ?_
    refine r_callUI (pc := 9) (As := []) (st := []) C h (fun _ _ e => ⟨_, _, _, _, _, _, Or.inr cu_X16_36_X16_here_X18, t_X16_here_X18 e, w_X16_here_X18 (Nat.le_refl 0) e⟩) (Nat.le_trans (Nat.le_of_ble_eq_true rfl) hd) (Nat.le_of_ble_eq_true rfl) dX16_sees_9 (fun v4 σ3 h => ?_)
    refine r_iload_n (pc := 12) (i := 2) C dX16_sees_12 rfl rfl ?_
    refine r_icmpgt (pc := 13) (tgt := 20) C dX16_sees_13 (by decide) h (fun h => ?_) (fun h => ?_)
    · refine r_iconst (pc := 20) (v := 0) C dX16_sees_20 (by decide) ?_
      exact r_zretL (pc := 21) C rfl dX16_sees_21 (Or.inl rfl) h E
    · refine r_iconst (pc := 16) (v := 1) C dX16_sees_16 (by decide) ?_
      refine r_goto (pc := 17) (tgt := 21) C dX16_sees_17 (by decide) ?_
      exact r_zretL (pc := 21) C rfl dX16_sees_21 (Or.inr rfl) h E
theorem t_X16_sees_X18 {F : Nat} {σ : MM} {a0 : Nat} {x1 : Int32} {x2 : Int32} {r : Int32 × MM} (h : g_X16_sees_X18 F σ a0 x1 x2 = some r) : mT σ a0 = (14, 9) := by
  unfold g_X16_sees_X18 at h
  exact (r_ck h).1
def g_X16_goes_X18 (F : Nat) (σ : MM) (a0 : Nat) : Option (MM) := if mT σ a0 = (14, 9) then ((gI σ a0 14 9 1).bind fun v1 => (pI σ a0 14 9 1 ((v1 + 1))).bind fun σ2 => some σ2) else none
theorem w_X16_goes_X18 {B F : Nat} {d : Nat} {σ : MM} {a0 : Nat} {σf : MM} (hd : 0 ≤ d) (h : g_X16_goes_X18 F σ a0 = some σf) : xMA B yX16_goes cX16_goes 1 none d 0 0 [rv B a0] σ none σf := by
  refine xMA.of (by decide +kernel) (Nat.le_of_ble_eq_true rfl) (cat_rv cat_nil) (fun G C E => ?_)
  unfold g_X16_goes_X18 at h
  obtain ⟨-, h⟩ := r_ck h
  refine r_aload_n (pc := 0) (i := 0) C dX16_goes_0 rfl rfl ?_
  refine r_dup (pc := 1) C dX16_goes_1 ?_
  refine r_getI (pc := 2) C fd_X16_19_X18 rfl dX16_goes_2 h (fun v1 h => ?_)
  refine r_iconst (pc := 5) (v := 1) C dX16_goes_5 (by decide) ?_
  refine r_iadd (pc := 6) C dX16_goes_6 ?_
  refine r_putI (pc := 7) C fd_X16_19_X18 ft_X18_1 dX16_goes_7 h (fun σ2 h => ?_)
  exact r_vret (pc := 10) C rfl dX16_goes_10 h E
theorem t_X16_goes_X18 {F : Nat} {σ : MM} {a0 : Nat} {r : MM} (h : g_X16_goes_X18 F σ a0 = some r) : mT σ a0 = (14, 9) := by
  unfold g_X16_goes_X18 at h
  exact (r_ck h).1
theorem cu_X16_40_X16_sees_X18 : xCU' RX16 40 yX16_sees cX16_sees 3 (some .boolean) 14 9 2 := ⟨by decide, by decide, _, ⟨"OneCoin$Scribe", "sees", "(II)Z"⟩, "OneCoin$Scribe", rfl, lw_U q739 q741 q743 q740 q138 q744, ⟨by decide +kernel, by decide +kernel, by decide +kernel⟩, rfl⟩
def g_X16_seesPerson_X18 (F : Nat) (σ : MM) (a0 : Nat) : Option (Int32 × MM) := if mT σ a0 = (14, 9) then (bq (g_X16_sees_X18 F σ a0 97 106) fun v2 σ1 => (rz v2).bind fun u => some (u, σ1)) else none
theorem w_X16_seesPerson_X18 {B F : Nat} {d : Nat} {σ : MM} {a0 : Nat} {rf : Int32} {σf : MM} (hd : 2 ≤ d) (h : g_X16_seesPerson_X18 F σ a0 = some (rf, σf)) : xMA B yX16_seesPerson cX16_seesPerson 1 (some .boolean) d 0 0 [rv B a0] σ (some (.int rf)) σf := by
  refine xMA.of (by decide +kernel) (Nat.le_of_ble_eq_true rfl) (cat_rv cat_nil) (fun G C E => ?_)
  unfold g_X16_seesPerson_X18 at h
  obtain ⟨-, h⟩ := r_ck h
  refine r_aload_n (pc := 0) (i := 0) C dX16_seesPerson_0 rfl rfl ?_
  refine r_bipush (pc := 1) (v := 97) C dX16_seesPerson_1 (by decide) ?_
  refine r_bipush (pc := 3) (v := 106) C dX16_seesPerson_3 (by decide) ?_
  refine r_callUI (pc := 5) (As := [.int 97, .int 106]) (st := []) C h (fun _ _ e => ⟨_, _, _, _, _, _, Or.inr cu_X16_40_X16_sees_X18, t_X16_sees_X18 e, w_X16_sees_X18 (Nat.le_refl 1) e⟩) (Nat.le_trans (Nat.le_of_ble_eq_true rfl) hd) (Nat.le_of_ble_eq_true rfl) dX16_seesPerson_5 (fun v2 σ1 h => ?_)
  exact r_zret (pc := 8) C rfl dX16_seesPerson_8 h E
theorem t_X16_seesPerson_X18 {F : Nat} {σ : MM} {a0 : Nat} {r : Int32 × MM} (h : g_X16_seesPerson_X18 F σ a0 = some r) : mT σ a0 = (14, 9) := by
  unfold g_X16_seesPerson_X18 at h
  exact (r_ck h).1
theorem fd_X16_26_X18 : xFg RX16 26 14 9 2 := ⟨_, rfl, rfl, by decide, by decide, in_X18, Or.inl q705⟩
theorem ft_X18_2 : xFt 14 2 .int false := ⟨_, rfl, by decide +kernel, rfl, rfl⟩
theorem fd_X16_29_X18 : xFg RX16 29 14 9 3 := ⟨_, rfl, rfl, by decide, by decide, in_X18, Or.inl q706⟩
theorem ft_X18_3 : xFt 14 3 .int false := ⟨_, rfl, by decide +kernel, rfl, rfl⟩
def g_X16_bad_X18 (F : Nat) (σ : MM) (a0 : Nat) (x1 : Int32) (x2 : Int32) : Option (MM) := if mT σ a0 = (14, 9) then ((gI σ a0 14 9 2).bind fun v1 => if 0 < v1 then (some σ) else ((pI σ a0 14 9 2 x1).bind fun σ2 => (pI σ2 a0 14 9 3 x2).bind fun σ3 => some σ3)) else none
theorem w_X16_bad_X18 {B F : Nat} {d : Nat} {σ : MM} {a0 : Nat} {x1 : Int32} {x2 : Int32} {σf : MM} (hd : 0 ≤ d) (h : g_X16_bad_X18 F σ a0 x1 x2 = some σf) : xMA B yX16_bad cX16_bad 3 none d 0 0 [rv B a0, .int x1, .int x2] σ none σf := by
  refine xMA.of (by decide +kernel) (Nat.le_of_ble_eq_true rfl) (cat_rv (cat_int (cat_int cat_nil))) (fun G C E => ?_)
  unfold g_X16_bad_X18 at h
  obtain ⟨-, h⟩ := r_ck h
  refine r_aload_n (pc := 0) (i := 0) C dX16_bad_0 rfl rfl ?_
  refine r_getI (pc := 1) C fd_X16_26_X18 rfl dX16_bad_1 h (fun v1 h => ?_)
  refine r_ifle (pc := 4) (tgt := 8) C dX16_bad_4 (by decide) h (fun h => ?_) (fun h => ?_)
  · refine r_aload_n (pc := 8) (i := 0) C dX16_bad_8 rfl rfl ?_
    refine r_iload_n (pc := 9) (i := 1) C dX16_bad_9 rfl rfl ?_
    refine r_putI (pc := 10) C fd_X16_26_X18 ft_X18_2 dX16_bad_10 h (fun σ2 h => ?_)
    refine r_aload_n (pc := 13) (i := 0) C dX16_bad_13 rfl rfl ?_
    refine r_iload_n (pc := 14) (i := 2) C dX16_bad_14 rfl rfl ?_
    refine r_putI (pc := 15) C fd_X16_29_X18 ft_X18_3 dX16_bad_15 h (fun σ3 h => ?_)
    exact r_vret (pc := 18) C rfl dX16_bad_18 h E
  · exact r_vret (pc := 7) C rfl dX16_bad_7 h E
theorem t_X16_bad_X18 {F : Nat} {σ : MM} {a0 : Nat} {x1 : Int32} {x2 : Int32} {r : MM} (h : g_X16_bad_X18 F σ a0 x1 x2 = some r) : mT σ a0 = (14, 9) := by
  unfold g_X16_bad_X18 at h
  exact (r_ck h).1
def g_X16_isGood_X18 (F : Nat) (σ : MM) (a0 : Nat) : Option (Int32 × MM) := if mT σ a0 = (14, 9) then ((gI σ a0 14 9 2).bind fun v1 => if v1 = 0 then (some (1, σ)) else (some (0, σ))) else none
theorem w_X16_isGood_X18 {B F : Nat} {d : Nat} {σ : MM} {a0 : Nat} {rf : Int32} {σf : MM} (hd : 0 ≤ d) (h : g_X16_isGood_X18 F σ a0 = some (rf, σf)) : xMA B yX16_isGood cX16_isGood 1 (some .boolean) d 0 0 [rv B a0] σ (some (.int rf)) σf := by
  refine xMA.of (by decide +kernel) (Nat.le_of_ble_eq_true rfl) (cat_rv cat_nil) (fun G C E => ?_)
  unfold g_X16_isGood_X18 at h
  obtain ⟨-, h⟩ := r_ck h
  refine r_aload_n (pc := 0) (i := 0) C dX16_isGood_0 rfl rfl ?_
  refine r_getI (pc := 1) C fd_X16_26_X18 rfl dX16_isGood_1 h (fun v1 h => ?_)
  refine r_ifne (pc := 4) (tgt := 11) C dX16_isGood_4 (by decide) h (fun h => ?_) (fun h => ?_)
  · refine r_iconst (pc := 11) (v := 0) C dX16_isGood_11 (by decide) ?_
    exact r_zretL (pc := 12) C rfl dX16_isGood_12 (Or.inl rfl) h E
  · refine r_iconst (pc := 7) (v := 1) C dX16_isGood_7 (by decide) ?_
    refine r_goto (pc := 8) (tgt := 12) C dX16_isGood_8 (by decide) ?_
    exact r_zretL (pc := 12) C rfl dX16_isGood_12 (Or.inr rfl) h E
theorem t_X16_isGood_X18 {F : Nat} {σ : MM} {a0 : Nat} {r : Int32 × MM} (h : g_X16_isGood_X18 F σ a0 = some r) : mT σ a0 = (14, 9) := by
  unfold g_X16_isGood_X18 at h
  exact (r_ck h).1
def g_X16_isEnd_X18 (F : Nat) (σ : MM) (a0 : Nat) : Option (Int32 × MM) := if mT σ a0 = (14, 9) then ((gI σ a0 14 9 1).bind fun v1 => (gI σ a0 14 9 0).bind fun v2 => if v1 < v2 then (some (0, σ)) else (some (1, σ))) else none
theorem w_X16_isEnd_X18 {B F : Nat} {d : Nat} {σ : MM} {a0 : Nat} {rf : Int32} {σf : MM} (hd : 0 ≤ d) (h : g_X16_isEnd_X18 F σ a0 = some (rf, σf)) : xMA B yX16_isEnd cX16_isEnd 1 (some .boolean) d 0 0 [rv B a0] σ (some (.int rf)) σf := by
  refine xMA.of (by decide +kernel) (Nat.le_of_ble_eq_true rfl) (cat_rv cat_nil) (fun G C E => ?_)
  unfold g_X16_isEnd_X18 at h
  obtain ⟨-, h⟩ := r_ck h
  refine r_aload_n (pc := 0) (i := 0) C dX16_isEnd_0 rfl rfl ?_
  refine r_getI (pc := 1) C fd_X16_19_X18 rfl dX16_isEnd_1 h (fun v1 h => ?_)
  refine r_aload_n (pc := 4) (i := 0) C dX16_isEnd_4 rfl rfl ?_
  refine r_getI (pc := 5) C fd_X16_15_X18 rfl dX16_isEnd_5 h (fun v2 h => ?_)
  refine r_icmplt (pc := 8) (tgt := 15) C dX16_isEnd_8 (by decide) h (fun h => ?_) (fun h => ?_)
  · refine r_iconst (pc := 15) (v := 0) C dX16_isEnd_15 (by decide) ?_
    exact r_zretL (pc := 16) C rfl dX16_isEnd_16 (Or.inl rfl) h E
  · refine r_iconst (pc := 11) (v := 1) C dX16_isEnd_11 (by decide) ?_
    refine r_goto (pc := 12) (tgt := 16) C dX16_isEnd_12 (by decide) ?_
    exact r_zretL (pc := 16) C rfl dX16_isEnd_16 (Or.inr rfl) h E
theorem t_X16_isEnd_X18 {F : Nat} {σ : MM} {a0 : Nat} {r : Int32 × MM} (h : g_X16_isEnd_X18 F σ a0 = some r) : mT σ a0 = (14, 9) := by
  unfold g_X16_isEnd_X18 at h
  exact (r_ck h).1
theorem cu_X18_38_X16_isGood_X18 : xCU' RX18 38 yX16_isGood cX16_isGood 1 (some .boolean) 14 9 0 := ⟨by decide, by decide, _, ⟨"OneCoin$Guide", "isGood", "()Z"⟩, "OneCoin$Scribe", rfl, lw_U q855 q856 q857 q782 q138 q783, ⟨by decide +kernel, by decide +kernel, by decide +kernel⟩, rfl⟩
theorem yd_X18_one : xYd yX18_one 0 := ⟨by decide +kernel, by decide +kernel, by decide +kernel⟩
theorem cs_X18_58_X18_one : xCV RX18 58 yX18_one cX18_one 6 none 14 9 0 := ⟨by decide, by decide, _, rfl, yd_X18_one, Or.inl ⟨rfl, lw_V q858 q860 qs20 q140 q861⟩⟩
theorem cu_X18_61_X16_isEnd_X18 : xCU' RX18 61 yX16_isEnd cX16_isEnd 1 (some .boolean) 14 9 0 := ⟨by decide, by decide, _, ⟨"OneCoin$Guide", "isEnd", "()Z"⟩, "OneCoin$Scribe", rfl, lw_U q884 q885 q886 q797 q138 q798, ⟨by decide +kernel, by decide +kernel, by decide +kernel⟩, rfl⟩
theorem cu_X18_42_X16_here_X18 : xCU' RX18 42 yX16_here cX16_here 1 (some .int) 14 9 0 := ⟨by decide, by decide, _, ⟨"OneCoin$Guide", "here", "()I"⟩, "OneCoin$Scribe", rfl, lw_U q868 q869 q870 q746 q138 q750, ⟨by decide +kernel, by decide +kernel, by decide +kernel⟩, rfl⟩
def l_X18_all_5 (rec : MM → Nat → Option (MM)) (K : MM → Option (MM)) (F : Nat) (a0 : Nat) : Nat → Int32 → MM → Option (MM)
  | 0, _, _ => none
  | f + 1, z1, σ => if z1 = 0 then (K σ) else ((rec σ a0).bind fun σ3 => bq (g_X16_isGood_X18 F σ3 a0) fun v5 σ4 => if v5 = 0 then (l_X18_all_5 rec K F a0 f 0 σ4) else (bq (g_X16_isEnd_X18 F σ4 a0) fun v7 σ6 => if v7 = 0 then (bq (g_X16_here_X18 F σ6 a0) fun v9 σ8 => if v9 = 41 then (l_X18_all_5 rec K F a0 f 0 σ8) else (l_X18_all_5 rec K F a0 f 1 σ8)) else (l_X18_all_5 rec K F a0 f 0 σ6)))
def s_X18_all (F : Nat) (rec : MM → Nat → Option (MM)) (σ : MM) (a0 : Nat) : Option (MM) := if mT σ a0 = (14, 9) then (bq (g_X16_isGood_X18 F σ a0) fun v2 σ1 => l_X18_all_5 rec (fun (σ10 : MM) => some σ10) F a0 F v2 σ1) else none
theorem wl_X18_all_5 {B : Nat} {G : XG} {d : Nat} {σf : MM} {rec : MM → Nat → Option (MM)} {dr : Nat} (hrec : ∀ (σ : MM) (b0 : Nat) (σ' : MM), rec σ b0 = some σ' → xMA B yX18_one cX18_one 6 none dr 0 0 [rv B b0] σ none σ' ∧ mT σ b0 = (14, 9)) (hd : dr + 1 ≤ d) (hd2 : 1 ≤ d) (C : xC B G yX18_all cX18_all 2 none d 0 0) (E : xEnd B G none σf 0 0) {K : MM → Option (MM)} {F : Nat} {a0 : Nat} (hK : ∀ (σ : MM), K σ = some σf → xV B G 0 0 σ 45 [] []) : ∀ (f : Nat) (z1 : Int32) (σ : MM), l_X18_all_5 rec K F a0 f z1 σ = some σf → xV B G 0 0 σ 5 [(0, rv B a0), (1, .int z1)] [] := by
  intro f
  induction f with
  | zero =>
    intro z1 σ h
    have h : none = some σf := h
    cases h
  | succ f ih =>
    intro z1 σ h
    rw [l_X18_all_5.eq_2] at h
    refine r_iload_n (pc := 5) (i := 1) C dX18_all_5 rfl rfl ?_
    refine r_ifeq (pc := 6) (tgt := 45) C dX18_all_6 (by decide) h (fun h => ?_) (fun h => ?_)
    · refine r_pick (lv' := []) [] rfl ?_
      exact hK _ h
    · refine r_aload_n (pc := 9) (i := 0) C dX18_all_9 rfl rfl ?_
      refine r_callVV (pc := 10) (As := []) (st := []) C cs_X18_58_X18_one h (fun _ e => (hrec _ _ _ e).1) (fun _ e => (hrec _ _ _ e).2) (by omega) (Nat.le_of_ble_eq_true rfl) dX18_all_10 (fun σ3 h => ?_)
      refine r_aload_n (pc := 13) (i := 0) C dX18_all_13 rfl rfl ?_
      refine r_callUI (pc := 14) (As := []) (st := []) C h (fun _ _ e => ⟨_, _, _, _, _, _, Or.inr cu_X18_38_X16_isGood_X18, t_X16_isGood_X18 e, w_X16_isGood_X18 (Nat.le_refl 0) e⟩) (by omega) (Nat.le_of_ble_eq_true rfl) dX18_all_14 (fun v5 σ4 h => ?_)
      refine r_ifeq (pc := 17) (tgt := 40) C dX18_all_17 (by decide) h (fun h => ?_) (fun h => ?_)
      · refine r_iconst (pc := 40) (v := 0) C dX18_all_40 (by decide) ?_
        refine r_istore_n (pc := 41) (i := 1) C dX18_all_41 rfl (by decide) ?_
        refine r_goto (pc := 42) (tgt := 5) C dX18_all_42 (by decide) ?_
        refine r_pick (lv' := [(0, rv B a0), (1, .int 0)]) [0, 1] rfl ?_
        exact ih _ _ h
      · refine r_aload_n (pc := 20) (i := 0) C dX18_all_20 rfl rfl ?_
        refine r_callUI (pc := 21) (As := []) (st := []) C h (fun _ _ e => ⟨_, _, _, _, _, _, Or.inr cu_X18_61_X16_isEnd_X18, t_X16_isEnd_X18 e, w_X16_isEnd_X18 (Nat.le_refl 0) e⟩) (by omega) (Nat.le_of_ble_eq_true rfl) dX18_all_21 (fun v7 σ6 h => ?_)
        refine r_ifne (pc := 24) (tgt := 40) C dX18_all_24 (by decide) h (fun h => ?_) (fun h => ?_)
        · refine r_iconst (pc := 40) (v := 0) C dX18_all_40 (by decide) ?_
          refine r_istore_n (pc := 41) (i := 1) C dX18_all_41 rfl (by decide) ?_
          refine r_goto (pc := 42) (tgt := 5) C dX18_all_42 (by decide) ?_
          refine r_pick (lv' := [(0, rv B a0), (1, .int 0)]) [0, 1] rfl ?_
          exact ih _ _ h
        · refine r_aload_n (pc := 27) (i := 0) C dX18_all_27 rfl rfl ?_
          refine r_callUI (pc := 28) (As := []) (st := []) C h (fun _ _ e => ⟨_, _, _, _, _, _, Or.inr cu_X18_42_X16_here_X18, t_X16_here_X18 e, w_X16_here_X18 (Nat.le_refl 0) e⟩) (by omega) (Nat.le_of_ble_eq_true rfl) dX18_all_28 (fun v9 σ8 h => ?_)
          refine r_bipush (pc := 31) (v := 41) C dX18_all_31 (by decide) ?_
          refine r_icmpeq (pc := 33) (tgt := 40) C dX18_all_33 (by decide) h (fun h => ?_) (fun h => ?_)
          · refine r_iconst (pc := 40) (v := 0) C dX18_all_40 (by decide) ?_
            refine r_istore_n (pc := 41) (i := 1) C dX18_all_41 rfl (by decide) ?_
            refine r_goto (pc := 42) (tgt := 5) C dX18_all_42 (by decide) ?_
            refine r_pick (lv' := [(0, rv B a0), (1, .int 0)]) [0, 1] rfl ?_
            exact ih _ _ h
          · refine r_iconst (pc := 36) (v := 1) C dX18_all_36 (by decide) ?_
            refine r_goto (pc := 37) (tgt := 41) C dX18_all_37 (by decide) ?_
            refine r_istore_n (pc := 41) (i := 1) C dX18_all_41 rfl (by decide) ?_
            refine r_goto (pc := 42) (tgt := 5) C dX18_all_42 (by decide) ?_
            refine r_pick (lv' := [(0, rv B a0), (1, .int 1)]) [0, 1] rfl ?_
            exact ih _ _ h
theorem ws_X18_all {B F : Nat} {d : Nat} {σ : MM} {a0 : Nat} {σf : MM} {rec : MM → Nat → Option (MM)} {dr : Nat} (hrec : ∀ (σ : MM) (b0 : Nat) (σ' : MM), rec σ b0 = some σ' → xMA B yX18_one cX18_one 6 none dr 0 0 [rv B b0] σ none σ' ∧ mT σ b0 = (14, 9)) (hd : dr + 1 ≤ d) (hd2 : 1 ≤ d) (h : s_X18_all F rec σ a0 = some σf) : xMA B yX18_all cX18_all 2 none d 0 0 [rv B a0] σ none σf := by
  refine xMA.of (by decide +kernel) (Nat.le_of_ble_eq_true rfl) (cat_rv cat_nil) (fun G C E => ?_)
  unfold s_X18_all at h
  obtain ⟨-, h⟩ := r_ck h
  refine r_aload_n (pc := 0) (i := 0) C dX18_all_0 rfl rfl ?_
  refine r_callUI (pc := 1) (As := []) (st := []) C h (fun _ _ e => ⟨_, _, _, _, _, _, Or.inr cu_X18_38_X16_isGood_X18, t_X16_isGood_X18 e, w_X16_isGood_X18 (Nat.le_refl 0) e⟩) (by omega) (Nat.le_of_ble_eq_true rfl) dX18_all_1 (fun v2 σ1 h => ?_)
  refine r_istore_n (pc := 4) (i := 1) C dX18_all_4 rfl (by decide) ?_
  refine r_pick (lv' := [(0, rv B a0), (1, .int v2)]) [0, 1] rfl ?_
  refine wl_X18_all_5 hrec hd hd2 C E (fun  σ10 h => ?_) _ _ _ h
  exact r_vret (pc := 45) C rfl dX18_all_45 h E
theorem ts_X18_all {F : Nat} {rec : MM → Nat → Option (MM)} {σ : MM} {a0 : Nat} {r : MM} (h : s_X18_all F rec σ a0 = some r) : mT σ a0 = (14, 9) := by
  unfold s_X18_all at h
  exact (r_ck h).1
theorem fd_X18_19 : xFg RX18 19 14 9 7 := ⟨_, rfl, rfl, by decide, by decide, in_X18, Or.inl q831⟩
theorem ft_X18_7 : xFt 14 7 .int false := ⟨_, rfl, by decide +kernel, rfl, rfl⟩
theorem cu_X18_31_X16_goes_X18 : xCU' RX18 31 yX16_goes cX16_goes 1 none 14 9 0 := ⟨by decide, by decide, _, ⟨"OneCoin$Guide", "goes", "()V"⟩, "OneCoin$Scribe", rfl, lw_U q871 q872 q873 q776 q138 q777, ⟨by decide +kernel, by decide +kernel, by decide +kernel⟩, rfl⟩
theorem yd_X18_all : xYd yX18_all 0 := ⟨by decide +kernel, by decide +kernel, by decide +kernel⟩
theorem cs_X18_35_X18_all : xCV RX18 35 yX18_all cX18_all 2 none 14 9 0 := ⟨by decide, by decide, _, rfl, yd_X18_all, Or.inl ⟨rfl, lw_V q851 q853 qs19 q140 q854⟩⟩
theorem cu_X18_23_X16_place_X18 : xCU' RX18 23 yX16_place cX16_place 1 (some .int) 14 9 0 := ⟨by decide, by decide, _, ⟨"OneCoin$Guide", "place", "()I"⟩, "OneCoin$Scribe", rfl, lw_U q862 q863 q864 q755 q138 q756, ⟨by decide +kernel, by decide +kernel, by decide +kernel⟩, rfl⟩
theorem cu_X18_27_X16_bad_X18 : xCU' RX18 27 yX16_bad cX16_bad 3 none 14 9 2 := ⟨by decide, by decide, _, ⟨"OneCoin$Guide", "bad", "(II)V"⟩, "OneCoin$Scribe", rfl, lw_U q878 q879 q880 q761 q138 q762, ⟨by decide +kernel, by decide +kernel, by decide +kernel⟩, rfl⟩
def s_X18_rounds (F : Nat) (rec : MM → Nat → Option (MM)) (σ : MM) (a0 : Nat) : Option (MM) := if mT σ a0 = (14, 9) then ((gI σ a0 14 9 7).bind fun v1 => jn (fun (σ2 : MM) => (g_X16_goes_X18 F σ2 a0).bind fun σ4 => (gI σ4 a0 14 9 7).bind fun v5 => (pI σ4 a0 14 9 7 ((v5 + 1))).bind fun σ6 => (s_X18_all F rec σ6 a0).bind fun σ7 => bq (g_X16_isGood_X18 F σ7 a0) fun v9 σ8 => jn (fun (σ10 : MM) => (g_X16_goes_X18 F σ10 a0).bind fun σ12 => (gI σ12 a0 14 9 7).bind fun v13 => (pI σ12 a0 14 9 7 ((v13 - 1))).bind fun σ14 => some σ14) (fun k11 => if v9 = 0 then (k11 σ8) else (bq (g_X16_here_X18 F σ8 a0) fun v16 σ15 => if v16 = 41 then (k11 σ15) else (bq (g_X16_place_X18 F σ15 a0) fun v18 σ17 => (g_X16_bad_X18 F σ17 a0 1 v18).bind fun σ19 => k11 σ19)))) (fun k3 => if v1 = 2 then (bq (g_X16_place_X18 F σ a0) fun v21 σ20 => (g_X16_bad_X18 F σ20 a0 5 v21).bind fun σ22 => k3 σ22) else (k3 σ))) else none
theorem ws_X18_rounds {B F : Nat} {d : Nat} {σ : MM} {a0 : Nat} {σf : MM} {rec : MM → Nat → Option (MM)} {dr : Nat} (hrec : ∀ (σ : MM) (b0 : Nat) (σ' : MM), rec σ b0 = some σ' → xMA B yX18_one cX18_one 6 none dr 0 0 [rv B b0] σ none σ' ∧ mT σ b0 = (14, 9)) (hd : dr + 2 ≤ d) (hd2 : 2 ≤ d) (h : s_X18_rounds F rec σ a0 = some σf) : xMA B yX18_rounds cX18_rounds 1 none d 0 0 [rv B a0] σ none σf := by
  refine xMA.of (by decide +kernel) (Nat.le_of_ble_eq_true rfl) (cat_rv cat_nil) (fun G C E => ?_)
  unfold s_X18_rounds at h
  obtain ⟨-, h⟩ := r_ck h
  refine r_aload_n (pc := 0) (i := 0) C dX18_rounds_0 rfl rfl ?_
  refine r_getI (pc := 1) C fd_X18_19 rfl dX18_rounds_1 h (fun v1 h => ?_)
  refine r_iconst (pc := 4) (v := 2) C dX18_rounds_4 (by decide) ?_
  refine r_jn (fun k9 => ∀  (σ2 : MM), k9 σ2 = some σf → xV B G 0 0 σ2 17 [(0, rv B a0)] []) h (fun  σ2 h => ?_) (fun k3 hk3 h => ?_)
  · refine r_aload_n (pc := 17) (i := 0) C dX18_rounds_17 rfl rfl ?_
    refine r_callUV (pc := 18) (As := []) (st := []) C h (fun _ e => ⟨_, _, _, _, _, _, Or.inr cu_X18_31_X16_goes_X18, t_X16_goes_X18 e, w_X16_goes_X18 (Nat.le_refl 0) e⟩) (by omega) (Nat.le_of_ble_eq_true rfl) dX18_rounds_18 (fun σ4 h => ?_)
    refine r_aload_n (pc := 21) (i := 0) C dX18_rounds_21 rfl rfl ?_
    refine r_dup (pc := 22) C dX18_rounds_22 ?_
    refine r_getI (pc := 23) C fd_X18_19 rfl dX18_rounds_23 h (fun v5 h => ?_)
    refine r_iconst (pc := 26) (v := 1) C dX18_rounds_26 (by decide) ?_
    refine r_iadd (pc := 27) C dX18_rounds_27 ?_
    refine r_putI (pc := 28) C fd_X18_19 ft_X18_7 dX18_rounds_28 h (fun σ6 h => ?_)
    refine r_aload_n (pc := 31) (i := 0) C dX18_rounds_31 rfl rfl ?_
    refine r_callVV (pc := 32) (As := []) (st := []) C cs_X18_35_X18_all h (fun _ e => ws_X18_all (d := d - 1) hrec (by omega) (by omega) e) (fun _ e => ts_X18_all e) (by omega) (Nat.le_of_ble_eq_true rfl) dX18_rounds_32 (fun σ7 h => ?_)
    refine r_aload_n (pc := 35) (i := 0) C dX18_rounds_35 rfl rfl ?_
    refine r_callUI (pc := 36) (As := []) (st := []) C h (fun _ _ e => ⟨_, _, _, _, _, _, Or.inr cu_X18_38_X16_isGood_X18, t_X16_isGood_X18 e, w_X16_isGood_X18 (Nat.le_refl 0) e⟩) (by omega) (Nat.le_of_ble_eq_true rfl) dX18_rounds_36 (fun v9 σ8 h => ?_)
    refine r_jn (fun k9 => ∀  (σ10 : MM), k9 σ10 = some σf → xV B G 0 0 σ10 60 [(0, rv B a0)] []) h (fun  σ10 h => ?_) (fun k11 hk11 h => ?_)
    · refine r_aload_n (pc := 60) (i := 0) C dX18_rounds_60 rfl rfl ?_
      refine r_callUV (pc := 61) (As := []) (st := []) C h (fun _ e => ⟨_, _, _, _, _, _, Or.inr cu_X18_31_X16_goes_X18, t_X16_goes_X18 e, w_X16_goes_X18 (Nat.le_refl 0) e⟩) (by omega) (Nat.le_of_ble_eq_true rfl) dX18_rounds_61 (fun σ12 h => ?_)
      refine r_aload_n (pc := 64) (i := 0) C dX18_rounds_64 rfl rfl ?_
      refine r_dup (pc := 65) C dX18_rounds_65 ?_
      refine r_getI (pc := 66) C fd_X18_19 rfl dX18_rounds_66 h (fun v13 h => ?_)
      refine r_iconst (pc := 69) (v := 1) C dX18_rounds_69 (by decide) ?_
      refine r_isub (pc := 70) C dX18_rounds_70 ?_
      refine r_putI (pc := 71) C fd_X18_19 ft_X18_7 dX18_rounds_71 h (fun σ14 h => ?_)
      exact r_vret (pc := 74) C rfl dX18_rounds_74 h E
    · refine r_ifeq (pc := 39) (tgt := 60) C dX18_rounds_39 (by decide) h (fun h => ?_) (fun h => ?_)
      · refine r_pick (lv' := [(0, rv B a0)]) [0] rfl ?_
        exact hk11 _ h
      · refine r_aload_n (pc := 42) (i := 0) C dX18_rounds_42 rfl rfl ?_
        refine r_callUI (pc := 43) (As := []) (st := []) C h (fun _ _ e => ⟨_, _, _, _, _, _, Or.inr cu_X18_42_X16_here_X18, t_X16_here_X18 e, w_X16_here_X18 (Nat.le_refl 0) e⟩) (by omega) (Nat.le_of_ble_eq_true rfl) dX18_rounds_43 (fun v16 σ15 h => ?_)
        refine r_bipush (pc := 46) (v := 41) C dX18_rounds_46 (by decide) ?_
        refine r_icmpeq (pc := 48) (tgt := 60) C dX18_rounds_48 (by decide) h (fun h => ?_) (fun h => ?_)
        · refine r_pick (lv' := [(0, rv B a0)]) [0] rfl ?_
          exact hk11 _ h
        · refine r_aload_n (pc := 51) (i := 0) C dX18_rounds_51 rfl rfl ?_
          refine r_iconst (pc := 52) (v := 1) C dX18_rounds_52 (by decide) ?_
          refine r_aload_n (pc := 53) (i := 0) C dX18_rounds_53 rfl rfl ?_
          refine r_callUI (pc := 54) (As := []) (st := [.int 1, rv B a0]) C h (fun _ _ e => ⟨_, _, _, _, _, _, Or.inr cu_X18_23_X16_place_X18, t_X16_place_X18 e, w_X16_place_X18 (Nat.le_refl 0) e⟩) (by omega) (Nat.le_of_ble_eq_true rfl) dX18_rounds_54 (fun v18 σ17 h => ?_)
          refine r_callUV (pc := 57) (As := [.int 1, .int v18]) (st := []) C h (fun _ e => ⟨_, _, _, _, _, _, Or.inr cu_X18_27_X16_bad_X18, t_X16_bad_X18 e, w_X16_bad_X18 (Nat.le_refl 0) e⟩) (by omega) (Nat.le_of_ble_eq_true rfl) dX18_rounds_57 (fun σ19 h => ?_)
          refine r_pick (lv' := [(0, rv B a0)]) [0] rfl ?_
          exact hk11 _ h
  · refine r_icmpne (pc := 5) (tgt := 17) C dX18_rounds_5 (by decide) h (fun h => ?_) (fun h => ?_)
    · refine r_pick (lv' := [(0, rv B a0)]) [0] rfl ?_
      exact hk3 _ h
    · refine r_aload_n (pc := 8) (i := 0) C dX18_rounds_8 rfl rfl ?_
      refine r_iconst (pc := 9) (v := 5) C dX18_rounds_9 (by decide) ?_
      refine r_aload_n (pc := 10) (i := 0) C dX18_rounds_10 rfl rfl ?_
      refine r_callUI (pc := 11) (As := []) (st := [.int 5, rv B a0]) C h (fun _ _ e => ⟨_, _, _, _, _, _, Or.inr cu_X18_23_X16_place_X18, t_X16_place_X18 e, w_X16_place_X18 (Nat.le_refl 0) e⟩) (by omega) (Nat.le_of_ble_eq_true rfl) dX18_rounds_11 (fun v21 σ20 h => ?_)
      refine r_callUV (pc := 14) (As := [.int 5, .int v21]) (st := []) C h (fun _ e => ⟨_, _, _, _, _, _, Or.inr cu_X18_27_X16_bad_X18, t_X16_bad_X18 e, w_X16_bad_X18 (Nat.le_refl 0) e⟩) (by omega) (Nat.le_of_ble_eq_true rfl) dX18_rounds_14 (fun σ22 h => ?_)
      refine r_pick (lv' := [(0, rv B a0)]) [0] rfl ?_
      exact hk3 _ h
theorem ts_X18_rounds {F : Nat} {rec : MM → Nat → Option (MM)} {σ : MM} {a0 : Nat} {r : MM} (h : s_X18_rounds F rec σ a0 = some r) : mT σ a0 = (14, 9) := by
  unfold s_X18_rounds at h
  exact (r_ck h).1
theorem cu_X18_45_X16_sees_X18 : xCU' RX18 45 yX16_sees cX16_sees 3 (some .boolean) 14 9 2 := ⟨by decide, by decide, _, ⟨"OneCoin$Guide", "sees", "(II)Z"⟩, "OneCoin$Scribe", rfl, lw_U q865 q866 q867 q740 q138 q744, ⟨by decide +kernel, by decide +kernel, by decide +kernel⟩, rfl⟩
theorem fd_X18_49 : xFg RX18 49 14 9 6 := ⟨_, rfl, rfl, by decide, by decide, in_X18, Or.inl q830⟩
theorem ft_X18_6 : xFt 14 6 .int false := ⟨_, rfl, by decide +kernel, rfl, rfl⟩
theorem cu_X18_55_X16_seesPerson_X18 : xCU' RX18 55 yX16_seesPerson cX16_seesPerson 1 (some .boolean) 14 9 0 := ⟨by decide, by decide, _, ⟨"OneCoin$Guide", "seesPerson", "()Z"⟩, "OneCoin$Scribe", rfl, lw_U q881 q882 q883 q737 q138 q738, ⟨by decide +kernel, by decide +kernel, by decide +kernel⟩, rfl⟩
theorem yd_X18_rounds : xYd yX18_rounds 0 := ⟨by decide +kernel, by decide +kernel, by decide +kernel⟩
theorem cs_X18_52_X18_rounds : xCV RX18 52 yX18_rounds cX18_rounds 1 none 14 9 0 := ⟨by decide, by decide, _, rfl, yd_X18_rounds, Or.inl ⟨rfl, lw_V q874 q876 qs21 q140 q877⟩⟩
def l_X18_one_165 (rec : MM → Nat → Option (MM)) (K : MM → Option (MM)) (F : Nat) (a0 : Nat) (x2 : Int32) (x3 : Int32) (x4 : Int32) : Nat → Int32 → MM → Option (MM)
  | 0, _, _ => none
  | f + 1, z5, σ => bq (g_X16_isGood_X18 F σ a0) fun v21 σ20 => if v21 = 0 then (K σ20) else (if z5 < (x4 * x2) then ((gP σ20 a0 14 9 5).bind fun p22 => (gI σ20 a0 14 9 6).bind fun v23 => (gP σ20 a0 14 9 5).bind fun p24 => (rm_ z5 x4).bind fun v25 => (aI σ20 p24 20 ((x3 + v25))).bind fun v26 => (sI σ20 p22 v23 v26).bind fun σ27 => (gI σ27 a0 14 9 6).bind fun v28 => (pI σ27 a0 14 9 6 ((v28 + 1))).bind fun σ29 => l_X18_one_165 rec K F a0 x2 x3 x4 f ((z5 + 1)) σ29) else (K σ20))
def s_X18_one (F : Nat) (rec : MM → Nat → Option (MM)) (σ : MM) (a0 : Nat) : Option (MM) := if mT σ a0 = (14, 9) then (bq (g_X16_place_X18 F σ a0) fun v2 σ1 => bq (g_X16_sees_X18 F σ1 a0 50 57) fun v4 σ3 => jn (fun (w6 : Int32) (σ5 : MM) => jn (fun (σ8 : MM) => (gI σ8 a0 14 9 6).bind fun v10 => bq (g_X16_here_X18 F σ8 a0) fun v12 σ11 => jn (fun (σ13 : MM) => (gI σ13 a0 14 9 6).bind fun v15 => bq (g_X16_isGood_X18 F σ13 a0) fun v17 σ16 => jn (fun (σ18 : MM) => l_X18_one_165 rec (fun (σ30 : MM) => some σ30) F a0 w6 v10 ((v15 - v10)) F ((v15 - v10)) σ18) (fun k19 => if v17 = 0 then (k19 σ16) else (if 60 < (v10 + ((v15 - v10) * w6)) then ((g_X16_bad_X18 F σ16 a0 6 v2).bind fun σ31 => k19 σ31) else (k19 σ16)))) (fun k14 => if v12 = 40 then ((s_X18_rounds F rec σ11 a0).bind fun σ47 => k14 σ47) else (bq (g_X16_seesPerson_X18 F σ11 a0) fun v33 σ32 => if v33 = 0 then (bq (g_X16_place_X18 F σ32 a0) fun v45 σ44 => (g_X16_bad_X18 F σ44 a0 1 v45).bind fun σ46 => k14 σ46) else ((gI σ32 a0 14 9 6).bind fun v34 => if 60 < (v34 + w6) then ((g_X16_bad_X18 F σ32 a0 6 v2).bind fun σ43 => k14 σ43) else ((gP σ32 a0 14 9 5).bind fun p35 => (gI σ32 a0 14 9 6).bind fun v36 => bq (g_X16_here_X18 F σ32 a0) fun v38 σ37 => (sI σ37 p35 v36 ((v38 - 97))).bind fun σ39 => (gI σ39 a0 14 9 6).bind fun v40 => (pI σ39 a0 14 9 6 ((v40 + 1))).bind fun σ41 => (g_X16_goes_X18 F σ41 a0).bind fun σ42 => k14 σ42))))) (fun k9 => if 1 < w6 then ((g_X16_goes_X18 F σ5 a0).bind fun σ48 => k9 σ48) else (k9 σ5))) (fun k7 => if v4 = 0 then (k7 1 σ3) else (bq (g_X16_here_X18 F σ3 a0) fun v50 σ49 => k7 ((v50 - 48)) σ49))) else none
theorem wl_X18_one_165 {B : Nat} {G : XG} {d : Nat} {σf : MM} {rec : MM → Nat → Option (MM)} {dr : Nat} (hrec : ∀ (σ : MM) (b0 : Nat) (σ' : MM), rec σ b0 = some σ' → xMA B yX18_one cX18_one 6 none dr 0 0 [rv B b0] σ none σ' ∧ mT σ b0 = (14, 9)) (hd : dr + 3 ≤ d) (hd2 : 3 ≤ d) (C : xC B G yX18_one cX18_one 6 none d 0 0) (E : xEnd B G none σf 0 0) {K : MM → Option (MM)} {F : Nat} {a0 : Nat} {x2 : Int32} {x3 : Int32} {x4 : Int32} (hK : ∀ (σ : MM), K σ = some σf → xV B G 0 0 σ 218 [] []) : ∀ (f : Nat) (z5 : Int32) (σ : MM), l_X18_one_165 rec K F a0 x2 x3 x4 f z5 σ = some σf → xV B G 0 0 σ 165 [(0, rv B a0), (2, .int x2), (3, .int x3), (4, .int x4), (5, .int z5)] [] := by
  intro f
  induction f with
  | zero =>
    intro z5 σ h
    have h : none = some σf := h
    cases h
  | succ f ih =>
    intro z5 σ h
    rw [l_X18_one_165.eq_2] at h
    refine r_aload_n (pc := 165) (i := 0) C dX18_one_165 rfl rfl ?_
    refine r_callUI (pc := 166) (As := []) (st := []) C h (fun _ _ e => ⟨_, _, _, _, _, _, Or.inr cu_X18_38_X16_isGood_X18, t_X16_isGood_X18 e, w_X16_isGood_X18 (Nat.le_refl 0) e⟩) (by omega) (Nat.le_of_ble_eq_true rfl) dX18_one_166 (fun v21 σ20 h => ?_)
    refine r_ifeq (pc := 169) (tgt := 218) C dX18_one_169 (by decide) h (fun h => ?_) (fun h => ?_)
    · refine r_pick (lv' := []) [] rfl ?_
      exact hK _ h
    · refine r_iload (pc := 172) (i := 5) C dX18_one_172 rfl ?_
      refine r_iload (pc := 174) (i := 4) C dX18_one_174 rfl ?_
      refine r_iload_n (pc := 176) (i := 2) C dX18_one_176 rfl rfl ?_
      refine r_imul (pc := 177) C dX18_one_177 ?_
      refine r_icmpge (pc := 178) (tgt := 218) C dX18_one_178 (by decide) h (fun h => ?_) (fun h => ?_)
      · refine r_pick (lv' := []) [] rfl ?_
        exact hK _ h
      · refine r_aload_n (pc := 181) (i := 0) C dX18_one_181 rfl rfl ?_
        refine r_getP (pc := 182) C fd_X18_15 rfl dX18_one_182 h (fun p22 h => ?_)
        refine r_aload_n (pc := 185) (i := 0) C dX18_one_185 rfl rfl ?_
        refine r_getI (pc := 186) C fd_X18_49 rfl dX18_one_186 h (fun v23 h => ?_)
        refine r_aload_n (pc := 189) (i := 0) C dX18_one_189 rfl rfl ?_
        refine r_getP (pc := 190) C fd_X18_15 rfl dX18_one_190 h (fun p24 h => ?_)
        refine r_iload_n (pc := 193) (i := 3) C dX18_one_193 rfl rfl ?_
        refine r_iload (pc := 194) (i := 5) C dX18_one_194 rfl ?_
        refine r_iload (pc := 196) (i := 4) C dX18_one_196 rfl ?_
        refine r_irem (pc := 198) C dX18_one_198 h (fun v25 h => ?_)
        refine r_iadd (pc := 199) C dX18_one_199 ?_
        refine r_iald (pc := 200) C dX18_one_200 h (fun v26 h => ?_)
        refine r_iast (pc := 201) C dX18_one_201 h (fun σ27 h => ?_)
        refine r_aload_n (pc := 202) (i := 0) C dX18_one_202 rfl rfl ?_
        refine r_dup (pc := 203) C dX18_one_203 ?_
        refine r_getI (pc := 204) C fd_X18_49 rfl dX18_one_204 h (fun v28 h => ?_)
        refine r_iconst (pc := 207) (v := 1) C dX18_one_207 (by decide) ?_
        refine r_iadd (pc := 208) C dX18_one_208 ?_
        refine r_putI (pc := 209) C fd_X18_49 ft_X18_6 dX18_one_209 h (fun σ29 h => ?_)
        refine r_iinc (pc := 212) (i := 5) (v := (z5 + 1)) C dX18_one_212 rfl rfl (by decide) ?_
        refine r_goto (pc := 215) (tgt := 165) C dX18_one_215 (by decide) ?_
        refine r_pick (lv' := [(0, rv B a0), (2, .int x2), (3, .int x3), (4, .int x4), (5, .int (z5 + 1))]) [0, 2, 3, 4, 5] rfl ?_
        exact ih _ _ h
theorem ws_X18_one {B F : Nat} {d : Nat} {σ : MM} {a0 : Nat} {σf : MM} {rec : MM → Nat → Option (MM)} {dr : Nat} (hrec : ∀ (σ : MM) (b0 : Nat) (σ' : MM), rec σ b0 = some σ' → xMA B yX18_one cX18_one 6 none dr 0 0 [rv B b0] σ none σ' ∧ mT σ b0 = (14, 9)) (hd : dr + 3 ≤ d) (hd2 : 3 ≤ d) (h : s_X18_one F rec σ a0 = some σf) : xMA B yX18_one cX18_one 6 none d 0 0 [rv B a0] σ none σf := by
  refine xMA.of (by decide +kernel) (Nat.le_of_ble_eq_true rfl) (cat_rv cat_nil) (fun G C E => ?_)
  unfold s_X18_one at h
  obtain ⟨-, h⟩ := r_ck h
  refine r_aload_n (pc := 0) (i := 0) C dX18_one_0 rfl rfl ?_
  refine r_callUI (pc := 1) (As := []) (st := []) C h (fun _ _ e => ⟨_, _, _, _, _, _, Or.inr cu_X18_23_X16_place_X18, t_X16_place_X18 e, w_X16_place_X18 (Nat.le_refl 0) e⟩) (by omega) (Nat.le_of_ble_eq_true rfl) dX18_one_1 (fun v2 σ1 h => ?_)
  refine r_istore_n (pc := 4) (i := 1) C dX18_one_4 rfl (by decide) ?_
  refine r_aload_n (pc := 5) (i := 0) C dX18_one_5 rfl rfl ?_
  refine r_bipush (pc := 6) (v := 50) C dX18_one_6 (by decide) ?_
  refine r_bipush (pc := 8) (v := 57) C dX18_one_8 (by decide) ?_
  refine r_callUI (pc := 10) (As := [.int 50, .int 57]) (st := []) C h (fun _ _ e => ⟨_, _, _, _, _, _, Or.inr cu_X18_45_X16_sees_X18, t_X16_sees_X18 e, w_X16_sees_X18 (Nat.le_refl 1) e⟩) (by omega) (Nat.le_of_ble_eq_true rfl) dX18_one_10 (fun v4 σ3 h => ?_)
  refine r_jn (fun k9 => ∀ (w6 : Int32) (σ5 : MM), k9 w6 σ5 = some σf → xV B G 0 0 σ5 27 [(0, rv B a0), (1, .int v2)] [.int w6]) h (fun w6 σ5 h => ?_) (fun k7 hk7 h => ?_)
  · refine r_istore_n (pc := 27) (i := 2) C dX18_one_27 rfl (by decide) ?_
    refine r_iload_n (pc := 28) (i := 2) C dX18_one_28 rfl rfl ?_
    refine r_iconst (pc := 29) (v := 1) C dX18_one_29 (by decide) ?_
    refine r_jn (fun k9 => ∀  (σ8 : MM), k9 σ8 = some σf → xV B G 0 0 σ8 37 [(0, rv B a0), (1, .int v2), (2, .int w6)] []) h (fun  σ8 h => ?_) (fun k9 hk9 h => ?_)
    · refine r_aload_n (pc := 37) (i := 0) C dX18_one_37 rfl rfl ?_
      refine r_getI (pc := 38) C fd_X18_49 rfl dX18_one_38 h (fun v10 h => ?_)
      refine r_istore_n (pc := 41) (i := 3) C dX18_one_41 rfl (by decide) ?_
      refine r_aload_n (pc := 42) (i := 0) C dX18_one_42 rfl rfl ?_
      refine r_callUI (pc := 43) (As := []) (st := []) C h (fun _ _ e => ⟨_, _, _, _, _, _, Or.inr cu_X18_42_X16_here_X18, t_X16_here_X18 e, w_X16_here_X18 (Nat.le_refl 0) e⟩) (by omega) (Nat.le_of_ble_eq_true rfl) dX18_one_43 (fun v12 σ11 h => ?_)
      refine r_bipush (pc := 46) (v := 40) C dX18_one_46 (by decide) ?_
      refine r_jn (fun k9 => ∀  (σ13 : MM), k9 σ13 = some σf → xV B G 0 0 σ13 128 [(0, rv B a0), (1, .int v2), (2, .int w6), (3, .int v10)] []) h (fun  σ13 h => ?_) (fun k14 hk14 h => ?_)
      · refine r_aload_n (pc := 128) (i := 0) C dX18_one_128 rfl rfl ?_
        refine r_getI (pc := 129) C fd_X18_49 rfl dX18_one_129 h (fun v15 h => ?_)
        refine r_iload_n (pc := 132) (i := 3) C dX18_one_132 rfl rfl ?_
        refine r_isub (pc := 133) C dX18_one_133 ?_
        refine r_istore (pc := 134) (i := 4) C dX18_one_134 (by decide) ?_
        refine r_aload_n (pc := 136) (i := 0) C dX18_one_136 rfl rfl ?_
        refine r_callUI (pc := 137) (As := []) (st := []) C h (fun _ _ e => ⟨_, _, _, _, _, _, Or.inr cu_X18_38_X16_isGood_X18, t_X16_isGood_X18 e, w_X16_isGood_X18 (Nat.le_refl 0) e⟩) (by omega) (Nat.le_of_ble_eq_true rfl) dX18_one_137 (fun v17 σ16 h => ?_)
        refine r_jn (fun k9 => ∀  (σ18 : MM), k9 σ18 = some σf → xV B G 0 0 σ18 161 [(0, rv B a0), (2, .int w6), (3, .int v10), (4, .int (v15 - v10))] []) h (fun  σ18 h => ?_) (fun k19 hk19 h => ?_)
        · refine r_iload (pc := 161) (i := 4) C dX18_one_161 rfl ?_
          refine r_istore (pc := 163) (i := 5) C dX18_one_163 (by decide) ?_
          refine r_pick (lv' := [(0, rv B a0), (2, .int w6), (3, .int v10), (4, .int (v15 - v10)), (5, .int (v15 - v10))]) [0, 2, 3, 4, 5] rfl ?_
          refine wl_X18_one_165 hrec hd hd2 C E (fun  σ30 h => ?_) _ _ _ h
          exact r_vret (pc := 218) C rfl dX18_one_218 h E
        · refine r_ifeq (pc := 140) (tgt := 161) C dX18_one_140 (by decide) h (fun h => ?_) (fun h => ?_)
          · refine r_pick (lv' := [(0, rv B a0), (2, .int w6), (3, .int v10), (4, .int (v15 - v10))]) [0, 2, 3, 4] rfl ?_
            exact hk19 _ h
          · refine r_iload_n (pc := 143) (i := 3) C dX18_one_143 rfl rfl ?_
            refine r_iload (pc := 144) (i := 4) C dX18_one_144 rfl ?_
            refine r_iload_n (pc := 146) (i := 2) C dX18_one_146 rfl rfl ?_
            refine r_imul (pc := 147) C dX18_one_147 ?_
            refine r_iadd (pc := 148) C dX18_one_148 ?_
            refine r_bipush (pc := 149) (v := 60) C dX18_one_149 (by decide) ?_
            refine r_icmple (pc := 151) (tgt := 161) C dX18_one_151 (by decide) h (fun h => ?_) (fun h => ?_)
            · refine r_pick (lv' := [(0, rv B a0), (2, .int w6), (3, .int v10), (4, .int (v15 - v10))]) [0, 2, 3, 4] rfl ?_
              exact hk19 _ h
            · refine r_aload_n (pc := 154) (i := 0) C dX18_one_154 rfl rfl ?_
              refine r_bipush (pc := 155) (v := 6) C dX18_one_155 (by decide) ?_
              refine r_iload_n (pc := 157) (i := 1) C dX18_one_157 rfl rfl ?_
              refine r_callUV (pc := 158) (As := [.int 6, .int v2]) (st := []) C h (fun _ e => ⟨_, _, _, _, _, _, Or.inr cu_X18_27_X16_bad_X18, t_X16_bad_X18 e, w_X16_bad_X18 (Nat.le_refl 0) e⟩) (by omega) (Nat.le_of_ble_eq_true rfl) dX18_one_158 (fun σ31 h => ?_)
              refine r_pick (lv' := [(0, rv B a0), (2, .int w6), (3, .int v10), (4, .int (v15 - v10))]) [0, 2, 3, 4] rfl ?_
              exact hk19 _ h
      · refine r_icmpne (pc := 48) (tgt := 58) C dX18_one_48 (by decide) h (fun h => ?_) (fun h => ?_)
        · refine r_aload_n (pc := 58) (i := 0) C dX18_one_58 rfl rfl ?_
          refine r_callUI (pc := 59) (As := []) (st := []) C h (fun _ _ e => ⟨_, _, _, _, _, _, Or.inr cu_X18_55_X16_seesPerson_X18, t_X16_seesPerson_X18 e, w_X16_seesPerson_X18 (Nat.le_refl 2) e⟩) (by omega) (Nat.le_of_ble_eq_true rfl) dX18_one_59 (fun v33 σ32 h => ?_)
          refine r_ifne (pc := 62) (tgt := 77) C dX18_one_62 (by decide) h (fun h => ?_) (fun h => ?_)
          · refine r_aload_n (pc := 77) (i := 0) C dX18_one_77 rfl rfl ?_
            refine r_getI (pc := 78) C fd_X18_49 rfl dX18_one_78 h (fun v34 h => ?_)
            refine r_iload_n (pc := 81) (i := 2) C dX18_one_81 rfl rfl ?_
            refine r_iadd (pc := 82) C dX18_one_82 ?_
            refine r_bipush (pc := 83) (v := 60) C dX18_one_83 (by decide) ?_
            refine r_icmple (pc := 85) (tgt := 98) C dX18_one_85 (by decide) h (fun h => ?_) (fun h => ?_)
            · refine r_aload_n (pc := 98) (i := 0) C dX18_one_98 rfl rfl ?_
              refine r_getP (pc := 99) C fd_X18_15 rfl dX18_one_99 h (fun p35 h => ?_)
              refine r_aload_n (pc := 102) (i := 0) C dX18_one_102 rfl rfl ?_
              refine r_getI (pc := 103) C fd_X18_49 rfl dX18_one_103 h (fun v36 h => ?_)
              refine r_aload_n (pc := 106) (i := 0) C dX18_one_106 rfl rfl ?_
              refine r_callUI (pc := 107) (As := []) (st := [.int v36, rv B p35]) C h (fun _ _ e => ⟨_, _, _, _, _, _, Or.inr cu_X18_42_X16_here_X18, t_X16_here_X18 e, w_X16_here_X18 (Nat.le_refl 0) e⟩) (by omega) (Nat.le_of_ble_eq_true rfl) dX18_one_107 (fun v38 σ37 h => ?_)
              refine r_bipush (pc := 110) (v := 97) C dX18_one_110 (by decide) ?_
              refine r_isub (pc := 112) C dX18_one_112 ?_
              refine r_iast (pc := 113) C dX18_one_113 h (fun σ39 h => ?_)
              refine r_aload_n (pc := 114) (i := 0) C dX18_one_114 rfl rfl ?_
              refine r_dup (pc := 115) C dX18_one_115 ?_
              refine r_getI (pc := 116) C fd_X18_49 rfl dX18_one_116 h (fun v40 h => ?_)
              refine r_iconst (pc := 119) (v := 1) C dX18_one_119 (by decide) ?_
              refine r_iadd (pc := 120) C dX18_one_120 ?_
              refine r_putI (pc := 121) C fd_X18_49 ft_X18_6 dX18_one_121 h (fun σ41 h => ?_)
              refine r_aload_n (pc := 124) (i := 0) C dX18_one_124 rfl rfl ?_
              refine r_callUV (pc := 125) (As := []) (st := []) C h (fun _ e => ⟨_, _, _, _, _, _, Or.inr cu_X18_31_X16_goes_X18, t_X16_goes_X18 e, w_X16_goes_X18 (Nat.le_refl 0) e⟩) (by omega) (Nat.le_of_ble_eq_true rfl) dX18_one_125 (fun σ42 h => ?_)
              refine r_pick (lv' := [(0, rv B a0), (1, .int v2), (2, .int w6), (3, .int v10)]) [0, 1, 2, 3] rfl ?_
              exact hk14 _ h
            · refine r_aload_n (pc := 88) (i := 0) C dX18_one_88 rfl rfl ?_
              refine r_bipush (pc := 89) (v := 6) C dX18_one_89 (by decide) ?_
              refine r_iload_n (pc := 91) (i := 1) C dX18_one_91 rfl rfl ?_
              refine r_callUV (pc := 92) (As := [.int 6, .int v2]) (st := []) C h (fun _ e => ⟨_, _, _, _, _, _, Or.inr cu_X18_27_X16_bad_X18, t_X16_bad_X18 e, w_X16_bad_X18 (Nat.le_refl 0) e⟩) (by omega) (Nat.le_of_ble_eq_true rfl) dX18_one_92 (fun σ43 h => ?_)
              refine r_goto (pc := 95) (tgt := 128) C dX18_one_95 (by decide) ?_
              refine r_pick (lv' := [(0, rv B a0), (1, .int v2), (2, .int w6), (3, .int v10)]) [0, 1, 2, 3] rfl ?_
              exact hk14 _ h
          · refine r_aload_n (pc := 65) (i := 0) C dX18_one_65 rfl rfl ?_
            refine r_iconst (pc := 66) (v := 1) C dX18_one_66 (by decide) ?_
            refine r_aload_n (pc := 67) (i := 0) C dX18_one_67 rfl rfl ?_
            refine r_callUI (pc := 68) (As := []) (st := [.int 1, rv B a0]) C h (fun _ _ e => ⟨_, _, _, _, _, _, Or.inr cu_X18_23_X16_place_X18, t_X16_place_X18 e, w_X16_place_X18 (Nat.le_refl 0) e⟩) (by omega) (Nat.le_of_ble_eq_true rfl) dX18_one_68 (fun v45 σ44 h => ?_)
            refine r_callUV (pc := 71) (As := [.int 1, .int v45]) (st := []) C h (fun _ e => ⟨_, _, _, _, _, _, Or.inr cu_X18_27_X16_bad_X18, t_X16_bad_X18 e, w_X16_bad_X18 (Nat.le_refl 0) e⟩) (by omega) (Nat.le_of_ble_eq_true rfl) dX18_one_71 (fun σ46 h => ?_)
            refine r_goto (pc := 74) (tgt := 128) C dX18_one_74 (by decide) ?_
            refine r_pick (lv' := [(0, rv B a0), (1, .int v2), (2, .int w6), (3, .int v10)]) [0, 1, 2, 3] rfl ?_
            exact hk14 _ h
        · refine r_aload_n (pc := 51) (i := 0) C dX18_one_51 rfl rfl ?_
          refine r_callVV (pc := 52) (As := []) (st := []) C cs_X18_52_X18_rounds h (fun _ e => ws_X18_rounds (d := d - 1) hrec (by omega) (by omega) e) (fun _ e => ts_X18_rounds e) (by omega) (Nat.le_of_ble_eq_true rfl) dX18_one_52 (fun σ47 h => ?_)
          refine r_goto (pc := 55) (tgt := 128) C dX18_one_55 (by decide) ?_
          refine r_pick (lv' := [(0, rv B a0), (1, .int v2), (2, .int w6), (3, .int v10)]) [0, 1, 2, 3] rfl ?_
          exact hk14 _ h
    · refine r_icmple (pc := 30) (tgt := 37) C dX18_one_30 (by decide) h (fun h => ?_) (fun h => ?_)
      · refine r_pick (lv' := [(0, rv B a0), (1, .int v2), (2, .int w6)]) [0, 1, 2] rfl ?_
        exact hk9 _ h
      · refine r_aload_n (pc := 33) (i := 0) C dX18_one_33 rfl rfl ?_
        refine r_callUV (pc := 34) (As := []) (st := []) C h (fun _ e => ⟨_, _, _, _, _, _, Or.inr cu_X18_31_X16_goes_X18, t_X16_goes_X18 e, w_X16_goes_X18 (Nat.le_refl 0) e⟩) (by omega) (Nat.le_of_ble_eq_true rfl) dX18_one_34 (fun σ48 h => ?_)
        refine r_pick (lv' := [(0, rv B a0), (1, .int v2), (2, .int w6)]) [0, 1, 2] rfl ?_
        exact hk9 _ h
  · refine r_ifeq (pc := 13) (tgt := 26) C dX18_one_13 (by decide) h (fun h => ?_) (fun h => ?_)
    · refine r_iconst (pc := 26) (v := 1) C dX18_one_26 (by decide) ?_
      refine r_pick (lv' := [(0, rv B a0), (1, .int v2)]) [0, 1] rfl ?_
      exact hk7 _ _ h
    · refine r_aload_n (pc := 16) (i := 0) C dX18_one_16 rfl rfl ?_
      refine r_callUI (pc := 17) (As := []) (st := []) C h (fun _ _ e => ⟨_, _, _, _, _, _, Or.inr cu_X18_42_X16_here_X18, t_X16_here_X18 e, w_X16_here_X18 (Nat.le_refl 0) e⟩) (by omega) (Nat.le_of_ble_eq_true rfl) dX18_one_17 (fun v50 σ49 h => ?_)
      refine r_bipush (pc := 20) (v := 48) C dX18_one_20 (by decide) ?_
      refine r_isub (pc := 22) C dX18_one_22 ?_
      refine r_goto (pc := 23) (tgt := 27) C dX18_one_23 (by decide) ?_
      refine r_pick (lv' := [(0, rv B a0), (1, .int v2)]) [0, 1] rfl ?_
      exact hk7 _ _ h
theorem ts_X18_one {F : Nat} {rec : MM → Nat → Option (MM)} {σ : MM} {a0 : Nat} {r : MM} (h : s_X18_one F rec σ a0 = some r) : mT σ a0 = (14, 9) := by
  unfold s_X18_one at h
  exact (r_ck h).1
def r_X18_one (F : Nat) : Nat → MM → Nat → Option (MM)
  | 0 => fun _ _ => none
  | f + 1 => s_X18_one F (r_X18_one F f)
theorem wr_X18_one {B F : Nat} : ∀ (f d : Nat), 3 * f + 3 ≤ d → ∀ (σ : MM) (a0 : Nat) (σ' : MM), r_X18_one F f σ a0 = some σ' → xMA B yX18_one cX18_one 6 none d 0 0 [rv B a0] σ none σ' ∧ mT σ a0 = (14, 9) := by
  intro f
  induction f with
  | zero =>
    intro d hd σ a0 σ' h
    have h : none = some σ' := h
    cases h
  | succ f ih =>
    intro d hd σ a0 σ' h
    have h : s_X18_one F (r_X18_one F f) σ a0 = some σ' := h
    exact ⟨ws_X18_one (dr := 3 * f + 3) (ih _ (Nat.le_refl _)) (by omega) (by omega) h, ts_X18_one h⟩
def g_X18_one (F : Nat) (σ : MM) (a0 : Nat) : Option (MM) := r_X18_one F 64 σ a0
theorem w_X18_one {B F d : Nat} {σ : MM} {a0 : Nat} {σf : MM} (hd : 195 ≤ d) (h : g_X18_one F σ a0 = some σf) : xMA B yX18_one cX18_one 6 none d 0 0 [rv B a0] σ none σf := (wr_X18_one 64 d hd _ _ _ h).1
theorem t_X18_one {F : Nat} {σ : MM} {a0 : Nat} {r : MM} (h : g_X18_one F σ a0 = some r) : mT σ a0 = (14, 9) := ts_X18_one (rec := r_X18_one F 63) h
def g_X18_rounds (F : Nat) (σ : MM) (a0 : Nat) : Option (MM) := s_X18_rounds F (r_X18_one F 64) σ a0
theorem w_X18_rounds {B F d : Nat} {σ : MM} {a0 : Nat} {σf : MM} (hd : 197 ≤ d) (h : g_X18_rounds F σ a0 = some σf) : xMA B yX18_rounds cX18_rounds 1 none d 0 0 [rv B a0] σ none σf := ws_X18_rounds (dr := 195) (wr_X18_one 64 _ (Nat.le_refl _)) (by omega) (by omega) h
theorem t_X18_rounds {F : Nat} {σ : MM} {a0 : Nat} {r : MM} (h : g_X18_rounds F σ a0 = some r) : mT σ a0 = (14, 9) := ts_X18_rounds h
def g_X18_all (F : Nat) (σ : MM) (a0 : Nat) : Option (MM) := s_X18_all F (r_X18_one F 64) σ a0
theorem w_X18_all {B F d : Nat} {σ : MM} {a0 : Nat} {σf : MM} (hd : 196 ≤ d) (h : g_X18_all F σ a0 = some σf) : xMA B yX18_all cX18_all 2 none d 0 0 [rv B a0] σ none σf := ws_X18_all (dr := 195) (wr_X18_one 64 _ (Nat.le_refl _)) (by omega) (by omega) h
theorem t_X18_all {F : Nat} {σ : MM} {a0 : Nat} {r : MM} (h : g_X18_all F σ a0 = some r) : mT σ a0 = (14, 9) := ts_X18_all h
theorem cu_X16_32_X16_isGood_X18 : xCU' RX16 32 yX16_isGood cX16_isGood 1 (some .boolean) 14 9 0 := ⟨by decide, by decide, _, ⟨"OneCoin$Scribe", "isGood", "()Z"⟩, "OneCoin$Scribe", rfl, lw_U q813 q1902 q1904 q782 q138 q783, ⟨by decide +kernel, by decide +kernel, by decide +kernel⟩, rfl⟩
def g_X16_answer_X18 (F : Nat) (σ : MM) (a0 : Nat) (x1 : Int32) : Option (Int32 × MM) := if mT σ a0 = (14, 9) then (bq (g_X16_isGood_X18 F σ a0) fun v2 σ1 => if v2 = 0 then ((gI σ1 a0 14 9 2).bind fun v3 => (gI σ1 a0 14 9 3).bind fun v4 => some ((((-1000) * v3) - v4), σ1)) else (some (x1, σ1))) else none
theorem w_X16_answer_X18 {B F : Nat} {d : Nat} {σ : MM} {a0 : Nat} {x1 : Int32} {rf : Int32} {σf : MM} (hd : 1 ≤ d) (h : g_X16_answer_X18 F σ a0 x1 = some (rf, σf)) : xMA B yX16_answer cX16_answer 2 (some .int) d 0 0 [rv B a0, .int x1] σ (some (.int rf)) σf := by
  refine xMA.of (by decide +kernel) (Nat.le_of_ble_eq_true rfl) (cat_rv (cat_int cat_nil)) (fun G C E => ?_)
  unfold g_X16_answer_X18 at h
  obtain ⟨-, h⟩ := r_ck h
  refine r_aload_n (pc := 0) (i := 0) C dX16_answer_0 rfl rfl ?_
  refine r_callUI (pc := 1) (As := []) (st := []) C h (fun _ _ e => ⟨_, _, _, _, _, _, Or.inr cu_X16_32_X16_isGood_X18, t_X16_isGood_X18 e, w_X16_isGood_X18 (Nat.le_refl 0) e⟩) (Nat.le_trans (Nat.le_of_ble_eq_true rfl) hd) (Nat.le_of_ble_eq_true rfl) dX16_answer_1 (fun v2 σ1 h => ?_)
  refine r_ifeq (pc := 4) (tgt := 11) C dX16_answer_4 (by decide) h (fun h => ?_) (fun h => ?_)
  · refine r_sipush (pc := 11) (v := (-1000)) C dX16_answer_11 (by decide) ?_
    refine r_aload_n (pc := 14) (i := 0) C dX16_answer_14 rfl rfl ?_
    refine r_getI (pc := 15) C fd_X16_26_X18 rfl dX16_answer_15 h (fun v3 h => ?_)
    refine r_imul (pc := 18) C dX16_answer_18 ?_
    refine r_aload_n (pc := 19) (i := 0) C dX16_answer_19 rfl rfl ?_
    refine r_getI (pc := 20) C fd_X16_29_X18 rfl dX16_answer_20 h (fun v4 h => ?_)
    refine r_isub (pc := 23) C dX16_answer_23 ?_
    exact r_iret (pc := 24) C rfl dX16_answer_24 h E
  · refine r_iload_n (pc := 7) (i := 1) C dX16_answer_7 rfl rfl ?_
    refine r_goto (pc := 8) (tgt := 24) C dX16_answer_8 (by decide) ?_
    exact r_iret (pc := 24) C rfl dX16_answer_24 h E
theorem t_X16_answer_X18 {F : Nat} {σ : MM} {a0 : Nat} {x1 : Int32} {r : Int32 × MM} (h : g_X16_answer_X18 F σ a0 x1 = some r) : mT σ a0 = (14, 9) := by
  unfold g_X16_answer_X18 at h
  exact (r_ck h).1
theorem cu_X18_64_X16_answer_X18 : xCU' RX18 64 yX16_answer cX16_answer 2 (some .int) 14 9 1 := ⟨by decide, by decide, _, ⟨"OneCoin$Guide", "answer", "(I)I"⟩, "OneCoin$Scribe", rfl, lw_U q887 q888 q889 q811 q138 q812, ⟨by decide +kernel, by decide +kernel, by decide +kernel⟩, rfl⟩
def g_X18_read (F : Nat) (σ : MM) (a0 : Nat) : Option (Int32 × MM) := if mT σ a0 = (14, 9) then ((g_X18_all F σ a0).bind fun σ1 => bq (g_X16_isGood_X18 F σ1 a0) fun v3 σ2 => jn (fun (σ4 : MM) => (gI σ4 a0 14 9 6).bind fun v6 => bq (g_X16_answer_X18 F σ4 a0 v6) fun v8 σ7 => some (v8, σ7)) (fun k5 => if v3 = 0 then (k5 σ2) else (bq (g_X16_isEnd_X18 F σ2 a0) fun v10 σ9 => if v10 = 0 then (bq (g_X16_place_X18 F σ9 a0) fun v12 σ11 => (g_X16_bad_X18 F σ11 a0 1 v12).bind fun σ13 => k5 σ13) else (k5 σ9)))) else none
theorem w_X18_read {B F : Nat} {d : Nat} {σ : MM} {a0 : Nat} {rf : Int32} {σf : MM} (hd : 197 ≤ d) (h : g_X18_read F σ a0 = some (rf, σf)) : xMA B yX18_read cX18_read 1 (some .int) d 0 0 [rv B a0] σ (some (.int rf)) σf := by
  refine xMA.of (by decide +kernel) (Nat.le_of_ble_eq_true rfl) (cat_rv cat_nil) (fun G C E => ?_)
  unfold g_X18_read at h
  obtain ⟨-, h⟩ := r_ck h
  refine r_aload_n (pc := 0) (i := 0) C dX18_read_0 rfl rfl ?_
  refine r_callVV (pc := 1) (As := []) (st := []) C cs_X18_35_X18_all h (fun _ e => w_X18_all (Nat.le_refl 196) e) (fun _ e => t_X18_all e) (Nat.le_trans (Nat.le_of_ble_eq_true rfl) hd) (Nat.le_of_ble_eq_true rfl) dX18_read_1 (fun σ1 h => ?_)
  refine r_aload_n (pc := 4) (i := 0) C dX18_read_4 rfl rfl ?_
  refine r_callUI (pc := 5) (As := []) (st := []) C h (fun _ _ e => ⟨_, _, _, _, _, _, Or.inr cu_X18_38_X16_isGood_X18, t_X16_isGood_X18 e, w_X16_isGood_X18 (Nat.le_refl 0) e⟩) (Nat.le_trans (Nat.le_of_ble_eq_true rfl) hd) (Nat.le_of_ble_eq_true rfl) dX18_read_5 (fun v3 σ2 h => ?_)
  refine r_jn (fun k9 => ∀  (σ4 : MM), k9 σ4 = some (rf, σf) → xV B G 0 0 σ4 27 [(0, rv B a0)] []) h (fun  σ4 h => ?_) (fun k5 hk5 h => ?_)
  · refine r_aload_n (pc := 27) (i := 0) C dX18_read_27 rfl rfl ?_
    refine r_aload_n (pc := 28) (i := 0) C dX18_read_28 rfl rfl ?_
    refine r_getI (pc := 29) C fd_X18_49 rfl dX18_read_29 h (fun v6 h => ?_)
    refine r_callUI (pc := 32) (As := [.int v6]) (st := []) C h (fun _ _ e => ⟨_, _, _, _, _, _, Or.inr cu_X18_64_X16_answer_X18, t_X16_answer_X18 e, w_X16_answer_X18 (Nat.le_refl 1) e⟩) (Nat.le_trans (Nat.le_of_ble_eq_true rfl) hd) (Nat.le_of_ble_eq_true rfl) dX18_read_32 (fun v8 σ7 h => ?_)
    exact r_iret (pc := 35) C rfl dX18_read_35 h E
  · refine r_ifeq (pc := 8) (tgt := 27) C dX18_read_8 (by decide) h (fun h => ?_) (fun h => ?_)
    · refine r_pick (lv' := [(0, rv B a0)]) [0] rfl ?_
      exact hk5 _ h
    · refine r_aload_n (pc := 11) (i := 0) C dX18_read_11 rfl rfl ?_
      refine r_callUI (pc := 12) (As := []) (st := []) C h (fun _ _ e => ⟨_, _, _, _, _, _, Or.inr cu_X18_61_X16_isEnd_X18, t_X16_isEnd_X18 e, w_X16_isEnd_X18 (Nat.le_refl 0) e⟩) (Nat.le_trans (Nat.le_of_ble_eq_true rfl) hd) (Nat.le_of_ble_eq_true rfl) dX18_read_12 (fun v10 σ9 h => ?_)
      refine r_ifne (pc := 15) (tgt := 27) C dX18_read_15 (by decide) h (fun h => ?_) (fun h => ?_)
      · refine r_pick (lv' := [(0, rv B a0)]) [0] rfl ?_
        exact hk5 _ h
      · refine r_aload_n (pc := 18) (i := 0) C dX18_read_18 rfl rfl ?_
        refine r_iconst (pc := 19) (v := 1) C dX18_read_19 (by decide) ?_
        refine r_aload_n (pc := 20) (i := 0) C dX18_read_20 rfl rfl ?_
        refine r_callUI (pc := 21) (As := []) (st := [.int 1, rv B a0]) C h (fun _ _ e => ⟨_, _, _, _, _, _, Or.inr cu_X18_23_X16_place_X18, t_X16_place_X18 e, w_X16_place_X18 (Nat.le_refl 0) e⟩) (Nat.le_trans (Nat.le_of_ble_eq_true rfl) hd) (Nat.le_of_ble_eq_true rfl) dX18_read_21 (fun v12 σ11 h => ?_)
        refine r_callUV (pc := 24) (As := [.int 1, .int v12]) (st := []) C h (fun _ e => ⟨_, _, _, _, _, _, Or.inr cu_X18_27_X16_bad_X18, t_X16_bad_X18 e, w_X16_bad_X18 (Nat.le_refl 0) e⟩) (Nat.le_trans (Nat.le_of_ble_eq_true rfl) hd) (Nat.le_of_ble_eq_true rfl) dX18_read_24 (fun σ13 h => ?_)
        refine r_pick (lv' := [(0, rv B a0)]) [0] rfl ?_
        exact hk5 _ h
theorem t_X18_read {F : Nat} {σ : MM} {a0 : Nat} {r : Int32 × MM} (h : g_X18_read F σ a0 = some r) : mT σ a0 = (14, 9) := by
  unfold g_X18_read at h
  exact (r_ck h).1
theorem fd_X0_171 : xFg RX0 171 0 22 11 := ⟨_, rfl, rfl, by decide, by decide, in_X0, Or.inl q326⟩
theorem ft_X0_11 : xFt 0 11 .int false := ⟨_, rfl, by decide +kernel, rfl, rfl⟩
theorem yd_X3_pays : xYd yX3_pays 1 := ⟨by decide +kernel, by decide +kernel, by decide +kernel⟩
theorem cs_X0_174_X3_pays : xCV RX0 174 yX3_pays cX3_pays 2 (some .boolean) 2 16 1 := ⟨by decide, by decide, _, rfl, yd_X3_pays, Or.inl ⟨rfl, lw_V q899 q900 q901 q119 q902⟩⟩
theorem cs_X0_177_X0_way : xCV RX0 177 yX0_way cX0_way 3 (some .int) 0 22 2 := ⟨by decide, by decide, _, rfl, yd_X0_way, Or.inl ⟨rfl, lw_V q908 q910 qs23 q116 q911⟩⟩
def l_X0_walks_8 (K : MM → Option (Int32 × MM)) (F : Nat) (a0 : Nat) (a1 : Nat) (a2 : Nat) (x3 : Int32) : Nat → Int32 → MM → Option (Int32 × MM)
  | 0, _, _ => none
  | f + 1, z4, σ => if z4 < x3 then ((gI σ a1 2 16 3).bind fun v2 => (aI σ a2 20 z4).bind fun v3 => bq (g_X3_pays F σ a1 v3) fun v5 σ4 => if v5 = 0 then (some (z4, σ4)) else ((gI σ4 a0 0 22 11).bind fun v6 => (aI σ4 a2 20 z4).bind fun v7 => bq (g_X0_way F σ4 a0 v2 v7) fun v9 σ8 => (pI σ8 a0 0 22 11 ((v6 + v9))).bind fun σ10 => l_X0_walks_8 K F a0 a1 a2 x3 f ((z4 + 1)) σ10)) else (K σ)
def g_X0_walks (F : Nat) (σ : MM) (a0 : Nat) (a1 : Nat) (a2 : Nat) (x3 : Int32) : Option (Int32 × MM) := if mT σ a0 = (0, 22) then ((pI σ a0 0 22 11 0).bind fun σ1 => l_X0_walks_8 (fun (σ11 : MM) => some (x3, σ11)) F a0 a1 a2 x3 F 0 σ1) else none
theorem wl_X0_walks_8 {B : Nat} {G : XG} {d : Nat} {rf : Int32} {σf : MM} (hd : 3 ≤ d) (C : xC B G yX0_walks cX0_walks 6 (some .int) d 0 0) (E : xEnd B G (some (.int rf)) σf 0 0) {K : MM → Option (Int32 × MM)} {F : Nat} {a0 : Nat} {a1 : Nat} {a2 : Nat} {x3 : Int32} (hK : ∀ (σ : MM), K σ = some (rf, σf) → xV B G 0 0 σ 59 [(3, .int x3)] []) : ∀ (f : Nat) (z4 : Int32) (σ : MM), l_X0_walks_8 K F a0 a1 a2 x3 f z4 σ = some (rf, σf) → xV B G 0 0 σ 8 [(0, rv B a0), (1, rv B a1), (2, rv B a2), (3, .int x3), (4, .int z4)] [] := by
  intro f
  induction f with
  | zero =>
    intro z4 σ h
    have h : none = some (rf, σf) := h
    cases h
  | succ f ih =>
    intro z4 σ h
    rw [l_X0_walks_8.eq_2] at h
    refine r_iload (pc := 8) (i := 4) C dX0_walks_8 rfl ?_
    refine r_iload_n (pc := 10) (i := 3) C dX0_walks_10 rfl rfl ?_
    refine r_icmpge (pc := 11) (tgt := 59) C dX0_walks_11 (by decide) h (fun h => ?_) (fun h => ?_)
    · refine r_pick (lv' := [(3, .int x3)]) [3] rfl ?_
      exact hK _ h
    · refine r_aload_n (pc := 14) (i := 1) C dX0_walks_14 rfl rfl ?_
      refine r_getI (pc := 15) C fd_X0_137 rfl dX0_walks_15 h (fun v2 h => ?_)
      refine r_istore (pc := 18) (i := 5) C dX0_walks_18 (by decide) ?_
      refine r_aload_n (pc := 20) (i := 1) C dX0_walks_20 rfl rfl ?_
      refine r_aload_n (pc := 21) (i := 2) C dX0_walks_21 rfl rfl ?_
      refine r_iload (pc := 22) (i := 4) C dX0_walks_22 rfl ?_
      refine r_iald (pc := 24) C dX0_walks_24 h (fun v3 h => ?_)
      refine r_callVI (pc := 25) (As := [.int v3]) (st := []) C cs_X0_174_X3_pays h (fun _ _ e => w_X3_pays (Nat.le_refl 2) e) (fun _ _ e => t_X3_pays e) (Nat.le_trans (Nat.le_of_ble_eq_true rfl) hd) (Nat.le_of_ble_eq_true rfl) dX0_walks_25 (fun v5 σ4 h => ?_)
      refine r_ifne (pc := 28) (tgt := 34) C dX0_walks_28 (by decide) h (fun h => ?_) (fun h => ?_)
      · refine r_aload_n (pc := 34) (i := 0) C dX0_walks_34 rfl rfl ?_
        refine r_dup (pc := 35) C dX0_walks_35 ?_
        refine r_getI (pc := 36) C fd_X0_171 rfl dX0_walks_36 h (fun v6 h => ?_)
        refine r_aload_n (pc := 39) (i := 0) C dX0_walks_39 rfl rfl ?_
        refine r_iload (pc := 40) (i := 5) C dX0_walks_40 rfl ?_
        refine r_aload_n (pc := 42) (i := 2) C dX0_walks_42 rfl rfl ?_
        refine r_iload (pc := 43) (i := 4) C dX0_walks_43 rfl ?_
        refine r_iald (pc := 45) C dX0_walks_45 h (fun v7 h => ?_)
        refine r_callVI (pc := 46) (As := [.int v2, .int v7]) (st := [.int v6, rv B a0]) C cs_X0_177_X0_way h (fun _ _ e => w_X0_way (Nat.le_refl 1) e) (fun _ _ e => t_X0_way e) (Nat.le_trans (Nat.le_of_ble_eq_true rfl) hd) (Nat.le_of_ble_eq_true rfl) dX0_walks_46 (fun v9 σ8 h => ?_)
        refine r_iadd (pc := 49) C dX0_walks_49 ?_
        refine r_putI (pc := 50) C fd_X0_171 ft_X0_11 dX0_walks_50 h (fun σ10 h => ?_)
        refine r_iinc (pc := 53) (i := 4) (v := (z4 + 1)) C dX0_walks_53 rfl rfl (by decide) ?_
        refine r_goto (pc := 56) (tgt := 8) C dX0_walks_56 (by decide) ?_
        refine r_pick (lv' := [(0, rv B a0), (1, rv B a1), (2, rv B a2), (3, .int x3), (4, .int (z4 + 1))]) [0, 1, 2, 3, 4] rfl ?_
        exact ih _ _ h
      · refine r_iload (pc := 31) (i := 4) C dX0_walks_31 rfl ?_
        exact r_iret (pc := 33) C rfl dX0_walks_33 h E
theorem w_X0_walks {B F : Nat} {d : Nat} {σ : MM} {a0 : Nat} {a1 : Nat} {a2 : Nat} {x3 : Int32} {rf : Int32} {σf : MM} (hd : 3 ≤ d) (h : g_X0_walks F σ a0 a1 a2 x3 = some (rf, σf)) : xMA B yX0_walks cX0_walks 6 (some .int) d 0 0 [rv B a0, rv B a1, rv B a2, .int x3] σ (some (.int rf)) σf := by
  refine xMA.of (by decide +kernel) (Nat.le_of_ble_eq_true rfl) (cat_rv (cat_rv (cat_rv (cat_int cat_nil)))) (fun G C E => ?_)
  unfold g_X0_walks at h
  obtain ⟨-, h⟩ := r_ck h
  refine r_aload_n (pc := 0) (i := 0) C dX0_walks_0 rfl rfl ?_
  refine r_iconst (pc := 1) (v := 0) C dX0_walks_1 (by decide) ?_
  refine r_putI (pc := 2) C fd_X0_171 ft_X0_11 dX0_walks_2 h (fun σ1 h => ?_)
  refine r_iconst (pc := 5) (v := 0) C dX0_walks_5 (by decide) ?_
  refine r_istore (pc := 6) (i := 4) C dX0_walks_6 (by decide) ?_
  refine r_pick (lv' := [(0, rv B a0), (1, rv B a1), (2, rv B a2), (3, .int x3), (4, .int 0)]) [0, 1, 2, 3, 4] rfl ?_
  refine wl_X0_walks_8 hd C E (fun  σ11 h => ?_) _ _ _ h
  refine r_iload_n (pc := 59) (i := 3) C dX0_walks_59 rfl rfl ?_
  exact r_iret (pc := 60) C rfl dX0_walks_60 h E
theorem t_X0_walks {F : Nat} {σ : MM} {a0 : Nat} {a1 : Nat} {a2 : Nat} {x3 : Int32} {r : Int32 × MM} (h : g_X0_walks F σ a0 a1 a2 x3 = some r) : mT σ a0 = (0, 22) := by
  unfold g_X0_walks at h
  exact (r_ck h).1
theorem xcl_X18 : xCl 14 9 RX18 := classCl _ rfl rfl rfl (by decide) in_X18 tyX18_ok (by decide +kernel)
theorem yd_X18_init : xYd yX18_init 2 := ⟨by decide +kernel, by decide +kernel, by decide +kernel⟩
theorem cs_X0_182_X18_init : xCI RX0 182 yX18_init cX18_init 3 2 := ⟨by decide, rfl, yd_X18_init, lw_meth q826, q140, q825, Or.inl q824⟩
theorem yd_X18_read : xYd yX18_read 0 := ⟨by decide +kernel, by decide +kernel, by decide +kernel⟩
theorem cs_X0_183_X18_read : xCV RX0 183 yX18_read cX18_read 1 (some .int) 14 9 0 := ⟨by decide, by decide, _, rfl, yd_X18_read, Or.inl ⟨rfl, lw_V q847 q848 q849 q140 q850⟩⟩
theorem fd_X0_70 : xFg RX0 70 0 22 5 := ⟨_, rfl, rfl, by decide, by decide, in_X0, Or.inl q317⟩
theorem ft_X0_5 : xFt 0 5 (.object "OneCoin$Duchy") true := ⟨_, rfl, by decide +kernel, rfl, rfl⟩
theorem yd_X3_takes : xYd yX3_takes 1 := ⟨by decide +kernel, by decide +kernel, by decide +kernel⟩
theorem cs_X0_184_X3_takes : xCV RX0 184 yX3_takes cX3_takes 3 (some (.object "OneCoin$Duchy")) 2 16 1 := ⟨by decide, by decide, _, rfl, yd_X3_takes, Or.inl ⟨rfl, lw_V q890 q891 q892 q119 q893⟩⟩
theorem fd_X0_187 : xFg RX0 187 14 9 5 := ⟨_, rfl, rfl, by decide, by decide, in_X18, Or.inr ⟨_, in_nest q829 rfl⟩⟩
theorem yd_X0_walks : xYd yX0_walks 3 := ⟨by decide +kernel, by decide +kernel, by decide +kernel⟩
theorem cs_X0_188_X0_walks : xCV RX0 188 yX0_walks cX0_walks 6 (some .int) 0 22 3 := ⟨by decide, by decide, _, rfl, yd_X0_walks, Or.inl ⟨rfl, lw_V q895 q897 qs22 q116 q898⟩⟩
def g_X0_route (F : Nat) (σ : MM) (a0 : Nat) (x1 : Int32) (x2 : Int32) : Option (Int32 × MM) := if mT σ a0 = (0, 22) then (bq (g_X0_within F σ x1 1 60) fun v2 σ1 => if v2 = 0 then (some ((-1), σ1)) else (bq (g_X0_in F σ1 x2 3) fun v4 σ3 => if v4 = 0 then (some ((-1), σ3)) else ((gI σ3 a0 0 22 9).bind fun v5 => if v5 < x1 then (some ((-1), σ3)) else ((pI σ3 a0 0 22 9 0).bind fun σ6 => nw σ6 (14, 9) fun p7 σ8 => (g_X18_init F σ8 p7 a0 x1).bind fun σ9 => bq (g_X18_read F σ9 p7) fun v11 σ10 => if v11 < 0 then (some (v11, σ10)) else ((gP σ10 a0 0 22 4).bind fun p12 => (gI σ10 p12 2 16 3).bind fun v13 => if v13 = (-1) then (some ((-2), σ10)) else ((gP σ10 a0 0 22 5).bind fun p14 => (gP σ10 a0 0 22 4).bind fun p15 => bq (g_X3_takes F σ10 p14 p15) fun p17 σ16 => (gP σ16 p7 14 9 5).bind fun p18 => bq (g_X0_walks F σ16 a0 p17 p18 v11) fun v20 σ19 => if x2 = 0 then (some (v20, σ19)) else (if x2 = 1 then ((gI σ19 a0 0 22 11).bind fun v23 => some (v23, σ19)) else ((gP σ19 a0 0 22 5).bind fun p21 => (gI σ19 p21 2 16 3).bind fun v22 => some (v22, σ19))))))))) else none
theorem w_X0_route {B F : Nat} {d : Nat} {σ : MM} {a0 : Nat} {x1 : Int32} {x2 : Int32} {rf : Int32} {σf : MM} (hd : 198 ≤ d) (h : g_X0_route F σ a0 x1 x2 = some (rf, σf)) : xMA B yX0_route cX0_route 6 (some .int) d 2 69 [rv B a0, .int x1, .int x2] σ (some (.int rf)) σf := by
  refine xMA.of (by decide +kernel) (Nat.le_of_ble_eq_true rfl) (cat_rv (cat_int (cat_int cat_nil))) (fun G C E => ?_)
  unfold g_X0_route at h
  obtain ⟨-, h⟩ := r_ck h
  refine r_iload_n (pc := 0) (i := 1) C dX0_route_0 rfl rfl ?_
  refine r_iconst (pc := 1) (v := 1) C dX0_route_1 (by decide) ?_
  refine r_bipush (pc := 2) (v := 60) C dX0_route_2 (by decide) ?_
  refine r_callSI (pc := 4) (As := [.int x1, .int 1, .int 60]) (st := []) C cs_X0_127_X0_within h (fun _ _ e => w_X0_within (Nat.le_refl 0) e) (Nat.le_trans (Nat.le_of_ble_eq_true rfl) hd) (Nat.le_of_ble_eq_true rfl) dX0_route_4 (fun v2 σ1 h => ?_)
  refine r_ifeq (pc := 7) (tgt := 26) C dX0_route_7 (by decide) h (fun h => ?_) (fun h => ?_)
  · refine r_iconst (pc := 26) (v := (-1)) C dX0_route_26 (by decide) ?_
    refine r_widen (k' := 2) (n' := 69) (Nat.le_of_ble_eq_true rfl) (Nat.le_of_ble_eq_true rfl) ?_
    exact r_iret (pc := 27) C rfl dX0_route_27 h E
  · refine r_iload_n (pc := 10) (i := 2) C dX0_route_10 rfl rfl ?_
    refine r_iconst (pc := 11) (v := 3) C dX0_route_11 (by decide) ?_
    refine r_callSI (pc := 12) (As := [.int x2, .int 3]) (st := []) C cs_X0_15_X0_in h (fun _ _ e => w_X0_in (Nat.le_refl 0) e) (Nat.le_trans (Nat.le_of_ble_eq_true rfl) hd) (Nat.le_of_ble_eq_true rfl) dX0_route_12 (fun v4 σ3 h => ?_)
    refine r_ifeq (pc := 15) (tgt := 26) C dX0_route_15 (by decide) h (fun h => ?_) (fun h => ?_)
    · refine r_iconst (pc := 26) (v := (-1)) C dX0_route_26 (by decide) ?_
      refine r_widen (k' := 2) (n' := 69) (Nat.le_of_ble_eq_true rfl) (Nat.le_of_ble_eq_true rfl) ?_
      exact r_iret (pc := 27) C rfl dX0_route_27 h E
    · refine r_iload_n (pc := 18) (i := 1) C dX0_route_18 rfl rfl ?_
      refine r_aload_n (pc := 19) (i := 0) C dX0_route_19 rfl rfl ?_
      refine r_getI (pc := 20) C fd_X0_143 rfl dX0_route_20 h (fun v5 h => ?_)
      refine r_icmple (pc := 23) (tgt := 28) C dX0_route_23 (by decide) h (fun h => ?_) (fun h => ?_)
      · refine r_aload_n (pc := 28) (i := 0) C dX0_route_28 rfl rfl ?_
        refine r_iconst (pc := 29) (v := 0) C dX0_route_29 (by decide) ?_
        refine r_putI (pc := 30) C fd_X0_143 ft_X0_9 dX0_route_30 h (fun σ6 h => ?_)
        refine r_newB (pc := 33) C xcl_X18 q822 q823 q140 dX0_route_33 (Nat.le_of_ble_eq_true rfl) (Nat.le_of_ble_eq_true rfl) rfl rfl h (fun p7 σ8 h => ?_)
        refine r_dup (pc := 36) C dX0_route_36 ?_
        refine r_aload_n (pc := 37) (i := 0) C dX0_route_37 rfl rfl ?_
        refine r_iload_n (pc := 38) (i := 1) C dX0_route_38 rfl rfl ?_
        refine r_callI (pc := 39) (As := [rv B a0, .int x1]) (st := [rv B p7]) C cs_X0_182_X18_init h (fun _ e => w_X18_init (Nat.le_refl 2) e) (fun _ e => by rw [t_X18_init e]; decide) (Nat.le_trans (Nat.le_of_ble_eq_true rfl) hd) (Nat.le_of_ble_eq_true rfl) (Nat.le_of_ble_eq_true rfl) rfl rfl (Nat.le_of_ble_eq_true rfl) dX0_route_39 (fun σ9 h => ?_)
        refine r_astore_n (pc := 42) (i := 3) C dX0_route_42 rfl (by decide) ?_
        refine r_aload_n (pc := 43) (i := 3) C dX0_route_43 rfl rfl ?_
        refine r_callVI (pc := 44) (As := []) (st := []) C cs_X0_183_X18_read h (fun _ _ e => w_X18_read (Nat.le_refl 197) e) (fun _ _ e => t_X18_read e) (Nat.le_trans (Nat.le_of_ble_eq_true rfl) hd) (Nat.le_of_ble_eq_true rfl) dX0_route_44 (fun v11 σ10 h => ?_)
        refine r_istore (pc := 47) (i := 4) C dX0_route_47 (by decide) ?_
        refine r_iload (pc := 49) (i := 4) C dX0_route_49 rfl ?_
        refine r_ifge (pc := 51) (tgt := 57) C dX0_route_51 (by decide) h (fun h => ?_) (fun h => ?_)
        · refine r_aload_n (pc := 57) (i := 0) C dX0_route_57 rfl rfl ?_
          refine r_getP (pc := 58) C fd_X0_66 rfl dX0_route_58 h (fun p12 h => ?_)
          refine r_getI (pc := 61) C fd_X0_137 rfl dX0_route_61 h (fun v13 h => ?_)
          refine r_iconst (pc := 64) (v := (-1)) C dX0_route_64 (by decide) ?_
          refine r_icmpne (pc := 65) (tgt := 71) C dX0_route_65 (by decide) h (fun h => ?_) (fun h => ?_)
          · refine r_aload_n (pc := 71) (i := 0) C dX0_route_71 rfl rfl ?_
            refine r_aload_n (pc := 72) (i := 0) C dX0_route_72 rfl rfl ?_
            refine r_getP (pc := 73) C fd_X0_70 rfl dX0_route_73 h (fun p14 h => ?_)
            refine r_aload_n (pc := 76) (i := 0) C dX0_route_76 rfl rfl ?_
            refine r_getP (pc := 77) C fd_X0_66 rfl dX0_route_77 h (fun p15 h => ?_)
            refine r_callVP (pc := 80) (As := [rv B p15]) (st := [rv B a0]) C cs_X0_184_X3_takes h (fun _ _ e => w_X3_takes (Nat.le_refl 1) e) (fun _ _ e => t_X3_takes e) (Nat.le_trans (Nat.le_of_ble_eq_true rfl) hd) (Nat.le_of_ble_eq_true rfl) dX0_route_80 (fun p17 σ16 h => ?_)
            refine r_aload_n (pc := 83) (i := 3) C dX0_route_83 rfl rfl ?_
            refine r_getP (pc := 84) C fd_X0_187 rfl dX0_route_84 h (fun p18 h => ?_)
            refine r_iload (pc := 87) (i := 4) C dX0_route_87 rfl ?_
            refine r_callVI (pc := 89) (As := [rv B p17, rv B p18, .int v11]) (st := []) C cs_X0_188_X0_walks h (fun _ _ e => w_X0_walks (Nat.le_refl 3) e) (fun _ _ e => t_X0_walks e) (Nat.le_trans (Nat.le_of_ble_eq_true rfl) hd) (Nat.le_of_ble_eq_true rfl) dX0_route_89 (fun v20 σ19 h => ?_)
            refine r_istore (pc := 92) (i := 5) C dX0_route_92 (by decide) ?_
            refine r_iload_n (pc := 94) (i := 2) C dX0_route_94 rfl rfl ?_
            refine r_ifne (pc := 95) (tgt := 103) C dX0_route_95 (by decide) h (fun h => ?_) (fun h => ?_)
            · refine r_iload_n (pc := 103) (i := 2) C dX0_route_103 rfl rfl ?_
              refine r_iconst (pc := 104) (v := 1) C dX0_route_104 (by decide) ?_
              refine r_icmpne (pc := 105) (tgt := 115) C dX0_route_105 (by decide) h (fun h => ?_) (fun h => ?_)
              · refine r_aload_n (pc := 115) (i := 0) C dX0_route_115 rfl rfl ?_
                refine r_getP (pc := 116) C fd_X0_70 rfl dX0_route_116 h (fun p21 h => ?_)
                refine r_getI (pc := 119) C fd_X0_137 rfl dX0_route_119 h (fun v22 h => ?_)
                exact r_iret (pc := 122) C rfl dX0_route_122 h E
              · refine r_aload_n (pc := 108) (i := 0) C dX0_route_108 rfl rfl ?_
                refine r_getI (pc := 109) C fd_X0_171 rfl dX0_route_109 h (fun v23 h => ?_)
                refine r_goto (pc := 112) (tgt := 122) C dX0_route_112 (by decide) ?_
                exact r_iret (pc := 122) C rfl dX0_route_122 h E
            · refine r_iload (pc := 98) (i := 5) C dX0_route_98 rfl ?_
              refine r_goto (pc := 100) (tgt := 122) C dX0_route_100 (by decide) ?_
              exact r_iret (pc := 122) C rfl dX0_route_122 h E
          · refine r_bipush (pc := 68) (v := (-2)) C dX0_route_68 (by decide) ?_
            exact r_iret (pc := 70) C rfl dX0_route_70 h E
        · refine r_iload (pc := 54) (i := 4) C dX0_route_54 rfl ?_
          exact r_iret (pc := 56) C rfl dX0_route_56 h E
      · refine r_iconst (pc := 26) (v := (-1)) C dX0_route_26 (by decide) ?_
        refine r_widen (k' := 2) (n' := 69) (Nat.le_of_ble_eq_true rfl) (Nat.le_of_ble_eq_true rfl) ?_
        exact r_iret (pc := 27) C rfl dX0_route_27 h E
theorem t_X0_route {F : Nat} {σ : MM} {a0 : Nat} {x1 : Int32} {x2 : Int32} {r : Int32 × MM} (h : g_X0_route F σ a0 x1 x2 = some r) : mT σ a0 = (0, 22) := by
  unfold g_X0_route at h
  exact (r_ck h).1
def g_X0_walk (F : Nat) (σ : MM) (a0 : Nat) (x1 : Int32) : Option (Int32 × MM) := if mT σ a0 = (0, 22) then (bq (g_X0_within F σ x1 1 60) fun v2 σ1 => if v2 = 0 then (some ((-1), σ1)) else ((gI σ1 a0 0 22 9).bind fun v3 => if v3 < x1 then (some ((-1), σ1)) else ((pI σ1 a0 0 22 9 0).bind fun σ4 => nw σ4 (14, 9) fun p5 σ6 => (g_X18_init F σ6 p5 a0 x1).bind fun σ7 => bq (g_X18_read F σ7 p5) fun v9 σ8 => if v9 < 0 then (some (v9, σ8)) else ((gP σ8 a0 0 22 4).bind fun p10 => (gI σ8 p10 2 16 3).bind fun v11 => if v11 = (-1) then (some ((-2), σ8)) else ((gP σ8 a0 0 22 4).bind fun p12 => (gP σ8 p5 14 9 5).bind fun p13 => bq (g_X0_walks F σ8 a0 p12 p13 v9) fun v15 σ14 => some (v15, σ14)))))) else none
theorem w_X0_walk {B F : Nat} {d : Nat} {σ : MM} {a0 : Nat} {x1 : Int32} {rf : Int32} {σf : MM} (hd : 198 ≤ d) (h : g_X0_walk F σ a0 x1 = some (rf, σf)) : xMA B yX0_walk cX0_walk 4 (some .int) d 2 69 [rv B a0, .int x1] σ (some (.int rf)) σf := by
  refine xMA.of (by decide +kernel) (Nat.le_of_ble_eq_true rfl) (cat_rv (cat_int cat_nil)) (fun G C E => ?_)
  unfold g_X0_walk at h
  obtain ⟨-, h⟩ := r_ck h
  refine r_iload_n (pc := 0) (i := 1) C dX0_walk_0 rfl rfl ?_
  refine r_iconst (pc := 1) (v := 1) C dX0_walk_1 (by decide) ?_
  refine r_bipush (pc := 2) (v := 60) C dX0_walk_2 (by decide) ?_
  refine r_callSI (pc := 4) (As := [.int x1, .int 1, .int 60]) (st := []) C cs_X0_127_X0_within h (fun _ _ e => w_X0_within (Nat.le_refl 0) e) (Nat.le_trans (Nat.le_of_ble_eq_true rfl) hd) (Nat.le_of_ble_eq_true rfl) dX0_walk_4 (fun v2 σ1 h => ?_)
  refine r_ifeq (pc := 7) (tgt := 18) C dX0_walk_7 (by decide) h (fun h => ?_) (fun h => ?_)
  · refine r_iconst (pc := 18) (v := (-1)) C dX0_walk_18 (by decide) ?_
    refine r_widen (k' := 2) (n' := 69) (Nat.le_of_ble_eq_true rfl) (Nat.le_of_ble_eq_true rfl) ?_
    exact r_iret (pc := 19) C rfl dX0_walk_19 h E
  · refine r_iload_n (pc := 10) (i := 1) C dX0_walk_10 rfl rfl ?_
    refine r_aload_n (pc := 11) (i := 0) C dX0_walk_11 rfl rfl ?_
    refine r_getI (pc := 12) C fd_X0_143 rfl dX0_walk_12 h (fun v3 h => ?_)
    refine r_icmple (pc := 15) (tgt := 20) C dX0_walk_15 (by decide) h (fun h => ?_) (fun h => ?_)
    · refine r_aload_n (pc := 20) (i := 0) C dX0_walk_20 rfl rfl ?_
      refine r_iconst (pc := 21) (v := 0) C dX0_walk_21 (by decide) ?_
      refine r_putI (pc := 22) C fd_X0_143 ft_X0_9 dX0_walk_22 h (fun σ4 h => ?_)
      refine r_newB (pc := 25) C xcl_X18 q822 q823 q140 dX0_walk_25 (Nat.le_of_ble_eq_true rfl) (Nat.le_of_ble_eq_true rfl) rfl rfl h (fun p5 σ6 h => ?_)
      refine r_dup (pc := 28) C dX0_walk_28 ?_
      refine r_aload_n (pc := 29) (i := 0) C dX0_walk_29 rfl rfl ?_
      refine r_iload_n (pc := 30) (i := 1) C dX0_walk_30 rfl rfl ?_
      refine r_callI (pc := 31) (As := [rv B a0, .int x1]) (st := [rv B p5]) C cs_X0_182_X18_init h (fun _ e => w_X18_init (Nat.le_refl 2) e) (fun _ e => by rw [t_X18_init e]; decide) (Nat.le_trans (Nat.le_of_ble_eq_true rfl) hd) (Nat.le_of_ble_eq_true rfl) (Nat.le_of_ble_eq_true rfl) rfl rfl (Nat.le_of_ble_eq_true rfl) dX0_walk_31 (fun σ7 h => ?_)
      refine r_astore_n (pc := 34) (i := 2) C dX0_walk_34 rfl (by decide) ?_
      refine r_aload_n (pc := 35) (i := 2) C dX0_walk_35 rfl rfl ?_
      refine r_callVI (pc := 36) (As := []) (st := []) C cs_X0_183_X18_read h (fun _ _ e => w_X18_read (Nat.le_refl 197) e) (fun _ _ e => t_X18_read e) (Nat.le_trans (Nat.le_of_ble_eq_true rfl) hd) (Nat.le_of_ble_eq_true rfl) dX0_walk_36 (fun v9 σ8 h => ?_)
      refine r_istore_n (pc := 39) (i := 3) C dX0_walk_39 rfl (by decide) ?_
      refine r_iload_n (pc := 40) (i := 3) C dX0_walk_40 rfl rfl ?_
      refine r_ifge (pc := 41) (tgt := 48) C dX0_walk_41 (by decide) h (fun h => ?_) (fun h => ?_)
      · refine r_aload_n (pc := 48) (i := 0) C dX0_walk_48 rfl rfl ?_
        refine r_getP (pc := 49) C fd_X0_66 rfl dX0_walk_49 h (fun p10 h => ?_)
        refine r_getI (pc := 52) C fd_X0_137 rfl dX0_walk_52 h (fun v11 h => ?_)
        refine r_iconst (pc := 55) (v := (-1)) C dX0_walk_55 (by decide) ?_
        refine r_icmpne (pc := 56) (tgt := 64) C dX0_walk_56 (by decide) h (fun h => ?_) (fun h => ?_)
        · refine r_aload_n (pc := 64) (i := 0) C dX0_walk_64 rfl rfl ?_
          refine r_aload_n (pc := 65) (i := 0) C dX0_walk_65 rfl rfl ?_
          refine r_getP (pc := 66) C fd_X0_66 rfl dX0_walk_66 h (fun p12 h => ?_)
          refine r_aload_n (pc := 69) (i := 2) C dX0_walk_69 rfl rfl ?_
          refine r_getP (pc := 70) C fd_X0_187 rfl dX0_walk_70 h (fun p13 h => ?_)
          refine r_iload_n (pc := 73) (i := 3) C dX0_walk_73 rfl rfl ?_
          refine r_callVI (pc := 74) (As := [rv B p12, rv B p13, .int v9]) (st := []) C cs_X0_188_X0_walks h (fun _ _ e => w_X0_walks (Nat.le_refl 3) e) (fun _ _ e => t_X0_walks e) (Nat.le_trans (Nat.le_of_ble_eq_true rfl) hd) (Nat.le_of_ble_eq_true rfl) dX0_walk_74 (fun v15 σ14 h => ?_)
          exact r_iret (pc := 77) C rfl dX0_walk_77 h E
        · refine r_bipush (pc := 59) (v := (-2)) C dX0_walk_59 (by decide) ?_
          refine r_goto (pc := 61) (tgt := 77) C dX0_walk_61 (by decide) ?_
          exact r_iret (pc := 77) C rfl dX0_walk_77 h E
      · refine r_iload_n (pc := 44) (i := 3) C dX0_walk_44 rfl rfl ?_
        refine r_goto (pc := 45) (tgt := 77) C dX0_walk_45 (by decide) ?_
        exact r_iret (pc := 77) C rfl dX0_walk_77 h E
    · refine r_iconst (pc := 18) (v := (-1)) C dX0_walk_18 (by decide) ?_
      refine r_widen (k' := 2) (n' := 69) (Nat.le_of_ble_eq_true rfl) (Nat.le_of_ble_eq_true rfl) ?_
      exact r_iret (pc := 19) C rfl dX0_walk_19 h E
theorem t_X0_walk {F : Nat} {σ : MM} {a0 : Nat} {x1 : Int32} {r : Int32 × MM} (h : g_X0_walk F σ a0 x1 = some r) : mT σ a0 = (0, 22) := by
  unfold g_X0_walk at h
  exact (r_ck h).1
theorem yd_X3_goes : xYd yX3_goes 1 := ⟨by decide +kernel, by decide +kernel, by decide +kernel⟩
theorem cs_X0_192_X3_goes : xCV RX0 192 yX3_goes cX3_goes 4 (some (.object "OneCoin$Duchy")) 2 16 1 := ⟨by decide, by decide, _, rfl, yd_X3_goes, Or.inl ⟨rfl, lw_V q924 q925 q926 q119 q927⟩⟩
theorem fd_X0_196 : xFg RX0 196 2 16 11 := ⟨_, rfl, rfl, by decide, by decide, in_X3, Or.inr ⟨_, in_nest q238 rfl⟩⟩
def g_X0_hours (F : Nat) (σ : MM) (a0 : Nat) (x1 : Int32) : Option (Int32 × MM) := if mT σ a0 = (0, 22) then (bq (g_X0_within F σ x1 1 240) fun v2 σ1 => if v2 = 0 then (some ((-1), σ1)) else ((gP σ1 a0 0 22 4).bind fun p3 => bq (g_X3_goes F σ1 p3 x1) fun p5 σ4 => (gI σ4 p5 2 16 11).bind fun v6 => some (v6, σ4))) else none
theorem w_X0_hours {B F : Nat} {d : Nat} {σ : MM} {a0 : Nat} {x1 : Int32} {rf : Int32} {σf : MM} (hd : 138 ≤ d) (h : g_X0_hours F σ a0 x1 = some (rf, σf)) : xMA B yX0_hours cX0_hours 2 (some .int) d 0 0 [rv B a0, .int x1] σ (some (.int rf)) σf := by
  refine xMA.of (by decide +kernel) (Nat.le_of_ble_eq_true rfl) (cat_rv (cat_int cat_nil)) (fun G C E => ?_)
  unfold g_X0_hours at h
  obtain ⟨-, h⟩ := r_ck h
  refine r_iload_n (pc := 0) (i := 1) C dX0_hours_0 rfl rfl ?_
  refine r_iconst (pc := 1) (v := 1) C dX0_hours_1 (by decide) ?_
  refine r_sipush (pc := 2) (v := 240) C dX0_hours_2 (by decide) ?_
  refine r_callSI (pc := 5) (As := [.int x1, .int 1, .int 240]) (st := []) C cs_X0_127_X0_within h (fun _ _ e => w_X0_within (Nat.le_refl 0) e) (Nat.le_trans (Nat.le_of_ble_eq_true rfl) hd) (Nat.le_of_ble_eq_true rfl) dX0_hours_5 (fun v2 σ1 h => ?_)
  refine r_ifeq (pc := 8) (tgt := 25) C dX0_hours_8 (by decide) h (fun h => ?_) (fun h => ?_)
  · refine r_iconst (pc := 25) (v := (-1)) C dX0_hours_25 (by decide) ?_
    exact r_iret (pc := 26) C rfl dX0_hours_26 h E
  · refine r_aload_n (pc := 11) (i := 0) C dX0_hours_11 rfl rfl ?_
    refine r_getP (pc := 12) C fd_X0_66 rfl dX0_hours_12 h (fun p3 h => ?_)
    refine r_iload_n (pc := 15) (i := 1) C dX0_hours_15 rfl rfl ?_
    refine r_callVP (pc := 16) (As := [.int x1]) (st := []) C cs_X0_192_X3_goes h (fun _ _ e => w_X3_goes (Nat.le_refl 137) e) (fun _ _ e => t_X3_goes e) (Nat.le_trans (Nat.le_of_ble_eq_true rfl) hd) (Nat.le_of_ble_eq_true rfl) dX0_hours_16 (fun p5 σ4 h => ?_)
    refine r_getI (pc := 19) C fd_X0_196 rfl dX0_hours_19 h (fun v6 h => ?_)
    refine r_goto (pc := 22) (tgt := 26) C dX0_hours_22 (by decide) ?_
    exact r_iret (pc := 26) C rfl dX0_hours_26 h E
theorem t_X0_hours {F : Nat} {σ : MM} {a0 : Nat} {x1 : Int32} {r : Int32 × MM} (h : g_X0_hours F σ a0 x1 = some r) : mT σ a0 = (0, 22) := by
  unfold g_X0_hours at h
  exact (r_ck h).1
theorem cs_X0_199_X4_all : xCV RX0 199 yX4_all cX4_all 3 (some .int) 3 1 0 := ⟨by decide, by decide, _, rfl, yd_X4_all, Or.inl ⟨rfl, lw_V q1058 q800 q801 q120 q802⟩⟩
theorem fd_X0_202 : xFg RX0 202 2 16 12 := ⟨_, rfl, rfl, by decide, by decide, in_X3, Or.inr ⟨_, in_nest q240 rfl⟩⟩
theorem fd_X0_205 : xFg RX0 205 2 16 13 := ⟨_, rfl, rfl, by decide, by decide, in_X3, Or.inr ⟨_, in_nest q242 rfl⟩⟩
theorem fd_X0_208 : xFg RX0 208 2 16 7 := ⟨_, rfl, rfl, by decide, by decide, in_X3, Or.inr ⟨_, in_nest q230 rfl⟩⟩
theorem fd_X0_211 : xFg RX0 211 2 16 1 := ⟨_, rfl, rfl, by decide, by decide, in_X3, Or.inr ⟨_, in_nest q219 rfl⟩⟩
def g_X0_tried (F : Nat) (σ : MM) (a0 : Nat) (x1 : Int32) (x2 : Int32) : Option (Int32 × MM) := if mT σ a0 = (0, 22) then (bq (g_X0_within F σ x1 1 240) fun v2 σ1 => if v2 = 0 then (some ((-1), σ1)) else (bq (g_X0_in F σ1 x2 6) fun v4 σ3 => jn (fun (σ5 : MM) => (gP σ5 a0 0 22 5).bind fun p7 => (gP σ5 a0 0 22 4).bind fun p8 => bq (g_X3_takes F σ5 p7 p8) fun p10 σ9 => bq (g_X3_goes F σ9 p10 x1) fun p12 σ11 => if x2 = 0 then ((gP σ11 a0 0 22 5).bind fun p13 => (gI σ11 p13 2 16 11).bind fun v14 => some (v14, σ11)) else if x2 = 1 then ((gP σ11 a0 0 22 5).bind fun p15 => (gP σ11 p15 2 16 0).bind fun p16 => bq (g_X4_all F σ11 p16) fun v18 σ17 => some (v18, σ17)) else if x2 = 2 then ((gP σ11 a0 0 22 5).bind fun p19 => (gI σ11 p19 2 16 3).bind fun v20 => if v20 = (-1) then (some ((-2), σ11)) else ((gP σ11 a0 0 22 5).bind fun p21 => (gI σ11 p21 2 16 3).bind fun v22 => some (v22, σ11))) else if x2 = 3 then ((gP σ11 a0 0 22 5).bind fun p23 => (gI σ11 p23 2 16 12).bind fun v24 => some (v24, σ11)) else if x2 = 4 then ((gP σ11 a0 0 22 5).bind fun p25 => (gI σ11 p25 2 16 13).bind fun v26 => some (v26, σ11)) else if x2 = 5 then ((gP σ11 a0 0 22 5).bind fun p27 => (gI σ11 p27 2 16 7).bind fun v28 => some (v28, σ11)) else ((gP σ11 a0 0 22 5).bind fun p29 => (gP σ11 p29 2 16 1).bind fun p30 => (aI σ11 p30 20 ((x2 - 10))).bind fun v31 => (gP σ11 a0 0 22 4).bind fun p32 => (gP σ11 p32 2 16 1).bind fun p33 => (aI σ11 p33 20 ((x2 - 10))).bind fun v34 => some ((v31 - v34), σ11))) (fun k6 => if v4 = 0 then (bq (g_X0_isTold F σ3 a0 ((x2 - 10))) fun v36 σ35 => if v36 = 0 then (some ((-1), σ35)) else (k6 σ35)) else (k6 σ3)))) else none
theorem w_X0_tried {B F : Nat} {d : Nat} {σ : MM} {a0 : Nat} {x1 : Int32} {x2 : Int32} {rf : Int32} {σf : MM} (hd : 138 ≤ d) (h : g_X0_tried F σ a0 x1 x2 = some (rf, σf)) : xMA B yX0_tried cX0_tried 3 (some .int) d 0 0 [rv B a0, .int x1, .int x2] σ (some (.int rf)) σf := by
  refine xMA.of (by decide +kernel) (Nat.le_of_ble_eq_true rfl) (cat_rv (cat_int (cat_int cat_nil))) (fun G C E => ?_)
  unfold g_X0_tried at h
  obtain ⟨-, h⟩ := r_ck h
  refine r_iload_n (pc := 0) (i := 1) C dX0_tried_0 rfl rfl ?_
  refine r_iconst (pc := 1) (v := 1) C dX0_tried_1 (by decide) ?_
  refine r_sipush (pc := 2) (v := 240) C dX0_tried_2 (by decide) ?_
  refine r_callSI (pc := 5) (As := [.int x1, .int 1, .int 240]) (st := []) C cs_X0_127_X0_within h (fun _ _ e => w_X0_within (Nat.le_refl 0) e) (Nat.le_trans (Nat.le_of_ble_eq_true rfl) hd) (Nat.le_of_ble_eq_true rfl) dX0_tried_5 (fun v2 σ1 h => ?_)
  refine r_ifeq (pc := 8) (tgt := 31) C dX0_tried_8 (by decide) h (fun h => ?_) (fun h => ?_)
  · refine r_iconst (pc := 31) (v := (-1)) C dX0_tried_31 (by decide) ?_
    exact r_iret (pc := 32) C rfl dX0_tried_32 h E
  · refine r_iload_n (pc := 11) (i := 2) C dX0_tried_11 rfl rfl ?_
    refine r_bipush (pc := 12) (v := 6) C dX0_tried_12 (by decide) ?_
    refine r_callSI (pc := 14) (As := [.int x2, .int 6]) (st := []) C cs_X0_15_X0_in h (fun _ _ e => w_X0_in (Nat.le_refl 0) e) (Nat.le_trans (Nat.le_of_ble_eq_true rfl) hd) (Nat.le_of_ble_eq_true rfl) dX0_tried_14 (fun v4 σ3 h => ?_)
    refine r_jn (fun k9 => ∀  (σ5 : MM), k9 σ5 = some (rf, σf) → xV B G 0 0 σ5 33 [(0, rv B a0), (1, .int x1), (2, .int x2)] []) h (fun  σ5 h => ?_) (fun k6 hk6 h => ?_)
    · refine r_aload_n (pc := 33) (i := 0) C dX0_tried_33 rfl rfl ?_
      refine r_getP (pc := 34) C fd_X0_70 rfl dX0_tried_34 h (fun p7 h => ?_)
      refine r_aload_n (pc := 37) (i := 0) C dX0_tried_37 rfl rfl ?_
      refine r_getP (pc := 38) C fd_X0_66 rfl dX0_tried_38 h (fun p8 h => ?_)
      refine r_callVP (pc := 41) (As := [rv B p8]) (st := []) C cs_X0_184_X3_takes h (fun _ _ e => w_X3_takes (Nat.le_refl 1) e) (fun _ _ e => t_X3_takes e) (Nat.le_trans (Nat.le_of_ble_eq_true rfl) hd) (Nat.le_of_ble_eq_true rfl) dX0_tried_41 (fun p10 σ9 h => ?_)
      refine r_iload_n (pc := 44) (i := 1) C dX0_tried_44 rfl rfl ?_
      refine r_callVP (pc := 45) (As := [.int x1]) (st := []) C cs_X0_192_X3_goes h (fun _ _ e => w_X3_goes (Nat.le_refl 137) e) (fun _ _ e => t_X3_goes e) (Nat.le_trans (Nat.le_of_ble_eq_true rfl) hd) (Nat.le_of_ble_eq_true rfl) dX0_tried_45 (fun p12 σ11 h => ?_)
      refine r_pop (pc := 48) C dX0_tried_48 ?_
      refine r_iload_n (pc := 49) (i := 2) C dX0_tried_49 rfl rfl ?_
      by_cases c0_50 : x2 = 0
      · rw [if_pos c0_50] at h
        refine r_tswE (pc := 50) (tgt := 88) C dX0_tried_50 c0_50 (by decide) (by decide) rfl (by decide) ?_
        refine r_aload_n (pc := 88) (i := 0) C dX0_tried_88 rfl rfl ?_
        refine r_getP (pc := 89) C fd_X0_70 rfl dX0_tried_89 h (fun p13 h => ?_)
        refine r_getI (pc := 92) C fd_X0_196 rfl dX0_tried_92 h (fun v14 h => ?_)
        exact r_iret (pc := 95) C rfl dX0_tried_95 h E
      rw [if_neg c0_50] at h
      by_cases c1_50 : x2 = 1
      · rw [if_pos c1_50] at h
        refine r_tswE (pc := 50) (tgt := 96) C dX0_tried_50 c1_50 (by decide) (by decide) rfl (by decide) ?_
        refine r_aload_n (pc := 96) (i := 0) C dX0_tried_96 rfl rfl ?_
        refine r_getP (pc := 97) C fd_X0_70 rfl dX0_tried_97 h (fun p15 h => ?_)
        refine r_getP (pc := 100) C fd_X0_131 rfl dX0_tried_100 h (fun p16 h => ?_)
        refine r_callVI (pc := 103) (As := []) (st := []) C cs_X0_199_X4_all h (fun _ _ e => w_X4_all (Nat.le_refl 1) e) (fun _ _ e => t_X4_all e) (Nat.le_trans (Nat.le_of_ble_eq_true rfl) hd) (Nat.le_of_ble_eq_true rfl) dX0_tried_103 (fun v18 σ17 h => ?_)
        exact r_iret (pc := 106) C rfl dX0_tried_106 h E
      rw [if_neg c1_50] at h
      by_cases c2_50 : x2 = 2
      · rw [if_pos c2_50] at h
        refine r_tswE (pc := 50) (tgt := 107) C dX0_tried_50 c2_50 (by decide) (by decide) rfl (by decide) ?_
        refine r_aload_n (pc := 107) (i := 0) C dX0_tried_107 rfl rfl ?_
        refine r_getP (pc := 108) C fd_X0_70 rfl dX0_tried_108 h (fun p19 h => ?_)
        refine r_getI (pc := 111) C fd_X0_137 rfl dX0_tried_111 h (fun v20 h => ?_)
        refine r_iconst (pc := 114) (v := (-1)) C dX0_tried_114 (by decide) ?_
        refine r_icmpne (pc := 115) (tgt := 123) C dX0_tried_115 (by decide) h (fun h => ?_) (fun h => ?_)
        · refine r_aload_n (pc := 123) (i := 0) C dX0_tried_123 rfl rfl ?_
          refine r_getP (pc := 124) C fd_X0_70 rfl dX0_tried_124 h (fun p21 h => ?_)
          refine r_getI (pc := 127) C fd_X0_137 rfl dX0_tried_127 h (fun v22 h => ?_)
          exact r_iret (pc := 130) C rfl dX0_tried_130 h E
        · refine r_bipush (pc := 118) (v := (-2)) C dX0_tried_118 (by decide) ?_
          refine r_goto (pc := 120) (tgt := 130) C dX0_tried_120 (by decide) ?_
          exact r_iret (pc := 130) C rfl dX0_tried_130 h E
      rw [if_neg c2_50] at h
      by_cases c3_50 : x2 = 3
      · rw [if_pos c3_50] at h
        refine r_tswE (pc := 50) (tgt := 131) C dX0_tried_50 c3_50 (by decide) (by decide) rfl (by decide) ?_
        refine r_aload_n (pc := 131) (i := 0) C dX0_tried_131 rfl rfl ?_
        refine r_getP (pc := 132) C fd_X0_70 rfl dX0_tried_132 h (fun p23 h => ?_)
        refine r_getI (pc := 135) C fd_X0_202 rfl dX0_tried_135 h (fun v24 h => ?_)
        exact r_iret (pc := 138) C rfl dX0_tried_138 h E
      rw [if_neg c3_50] at h
      by_cases c4_50 : x2 = 4
      · rw [if_pos c4_50] at h
        refine r_tswE (pc := 50) (tgt := 139) C dX0_tried_50 c4_50 (by decide) (by decide) rfl (by decide) ?_
        refine r_aload_n (pc := 139) (i := 0) C dX0_tried_139 rfl rfl ?_
        refine r_getP (pc := 140) C fd_X0_70 rfl dX0_tried_140 h (fun p25 h => ?_)
        refine r_getI (pc := 143) C fd_X0_205 rfl dX0_tried_143 h (fun v26 h => ?_)
        exact r_iret (pc := 146) C rfl dX0_tried_146 h E
      rw [if_neg c4_50] at h
      by_cases c5_50 : x2 = 5
      · rw [if_pos c5_50] at h
        refine r_tswE (pc := 50) (tgt := 147) C dX0_tried_50 c5_50 (by decide) (by decide) rfl (by decide) ?_
        refine r_aload_n (pc := 147) (i := 0) C dX0_tried_147 rfl rfl ?_
        refine r_getP (pc := 148) C fd_X0_70 rfl dX0_tried_148 h (fun p27 h => ?_)
        refine r_getI (pc := 151) C fd_X0_208 rfl dX0_tried_151 h (fun v28 h => ?_)
        exact r_iret (pc := 154) C rfl dX0_tried_154 h E
      rw [if_neg c5_50] at h
      refine r_dfl (st := []) (tgt := 155) (pc := 50) ?_ (fun hD => ?_)
      · refine r_aload_n (pc := 155) (i := 0) C dX0_tried_155 rfl rfl ?_
        refine r_getP (pc := 156) C fd_X0_70 rfl dX0_tried_156 h (fun p29 h => ?_)
        refine r_getP (pc := 159) C fd_X0_211 rfl dX0_tried_159 h (fun p30 h => ?_)
        refine r_iload_n (pc := 162) (i := 2) C dX0_tried_162 rfl rfl ?_
        refine r_bipush (pc := 163) (v := 10) C dX0_tried_163 (by decide) ?_
        refine r_isub (pc := 165) C dX0_tried_165 ?_
        refine r_iald (pc := 166) C dX0_tried_166 h (fun v31 h => ?_)
        refine r_aload_n (pc := 167) (i := 0) C dX0_tried_167 rfl rfl ?_
        refine r_getP (pc := 168) C fd_X0_66 rfl dX0_tried_168 h (fun p32 h => ?_)
        refine r_getP (pc := 171) C fd_X0_211 rfl dX0_tried_171 h (fun p33 h => ?_)
        refine r_iload_n (pc := 174) (i := 2) C dX0_tried_174 rfl rfl ?_
        refine r_bipush (pc := 175) (v := 10) C dX0_tried_175 (by decide) ?_
        refine r_isub (pc := 177) C dX0_tried_177 ?_
        refine r_iald (pc := 178) C dX0_tried_178 h (fun v34 h => ?_)
        refine r_isub (pc := 179) C dX0_tried_179 ?_
        exact r_iret (pc := 180) C rfl dX0_tried_180 h E
      have n0_50 := tsw_ne (i := 0) c0_50 (by decide)
      have n1_50 := tsw_ne (i := 1) c1_50 (by decide)
      have n2_50 := tsw_ne (i := 2) c2_50 (by decide)
      have n3_50 := tsw_ne (i := 3) c3_50 (by decide)
      have n4_50 := tsw_ne (i := 4) c4_50 (by decide)
      have n5_50 := tsw_ne (i := 5) c5_50 (by decide)
      exact r_tswO (pc := 50) (tgt := 155) C dX0_tried_50 (by omega) (by decide) hD
    · refine r_ifne (pc := 17) (tgt := 33) C dX0_tried_17 (by decide) h (fun h => ?_) (fun h => ?_)
      · refine r_pick (lv' := [(0, rv B a0), (1, .int x1), (2, .int x2)]) [0, 1, 2] rfl ?_
        exact hk6 _ h
      · refine r_aload_n (pc := 20) (i := 0) C dX0_tried_20 rfl rfl ?_
        refine r_iload_n (pc := 21) (i := 2) C dX0_tried_21 rfl rfl ?_
        refine r_bipush (pc := 22) (v := 10) C dX0_tried_22 (by decide) ?_
        refine r_isub (pc := 24) C dX0_tried_24 ?_
        refine r_callVI (pc := 25) (As := [.int (x2 - 10)]) (st := []) C cs_X0_123_X0_isTold h (fun _ _ e => w_X0_isTold (Nat.le_refl 1) e) (fun _ _ e => t_X0_isTold e) (Nat.le_trans (Nat.le_of_ble_eq_true rfl) hd) (Nat.le_of_ble_eq_true rfl) dX0_tried_25 (fun v36 σ35 h => ?_)
        refine r_ifne (pc := 28) (tgt := 33) C dX0_tried_28 (by decide) h (fun h => ?_) (fun h => ?_)
        · refine r_pick (lv' := [(0, rv B a0), (1, .int x1), (2, .int x2)]) [0, 1, 2] rfl ?_
          exact hk6 _ h
        · refine r_iconst (pc := 31) (v := (-1)) C dX0_tried_31 (by decide) ?_
          exact r_iret (pc := 32) C rfl dX0_tried_32 h E
theorem t_X0_tried {F : Nat} {σ : MM} {a0 : Nat} {x1 : Int32} {x2 : Int32} {r : Int32 × MM} (h : g_X0_tried F σ a0 x1 x2 = some r) : mT σ a0 = (0, 22) := by
  unfold g_X0_tried at h
  exact (r_ck h).1
theorem cs_X0_214_X4_owes : xCV RX0 214 yX4_owes cX4_owes 4 (some .int) 3 1 1 := ⟨by decide, by decide, _, rfl, yd_X4_owes, Or.inl ⟨rfl, lw_V q1063 q804 q805 q120 q806⟩⟩
theorem cs_X0_217_X4_gets : xCV RX0 217 yX4_gets cX4_gets 4 (some .int) 3 1 1 := ⟨by decide, by decide, _, rfl, yd_X4_gets, Or.inl ⟨rfl, lw_V q1064 q1065 q1066 q120 q1067⟩⟩
theorem cs_X0_220_X3_chalked : xCV RX0 220 yX3_chalked cX3_chalked 4 (some .int) 2 16 1 := ⟨by decide, by decide, _, rfl, yd_X3_chalked, Or.inl ⟨rfl, lw_V q1068 q1017 q1018 q119 q1019⟩⟩
def g_X0_personIs (F : Nat) (σ : MM) (a0 : Nat) (x1 : Int32) (x2 : Int32) : Option (Int32 × MM) := if mT σ a0 = (0, 22) then (bq (g_X0_isTold F σ a0 x1) fun v2 σ1 => if v2 = 0 then (some ((-1), σ1)) else (if x2 = 0 then ((gP σ1 a0 0 22 0).bind fun p3 => (aI σ1 p3 20 x1).bind fun v4 => some (v4, σ1)) else if x2 = 1 then ((gP σ1 a0 0 22 1).bind fun p5 => (aI σ1 p5 20 x1).bind fun v6 => some (v6, σ1)) else if x2 = 2 then ((gP σ1 a0 0 22 4).bind fun p7 => (gP σ1 p7 2 16 0).bind fun p8 => bq (g_X4_owes F σ1 p8 x1) fun v10 σ9 => some (v10, σ9)) else if x2 = 3 then ((gP σ1 a0 0 22 4).bind fun p11 => (gP σ1 p11 2 16 0).bind fun p12 => bq (g_X4_gets F σ1 p12 x1) fun v14 σ13 => some (v14, σ13)) else if x2 = 4 then ((gP σ1 a0 0 22 4).bind fun p15 => (gP σ1 p15 2 16 1).bind fun p16 => (aI σ1 p16 20 x1).bind fun v17 => some (v17, σ1)) else if x2 = 5 then ((gP σ1 a0 0 22 4).bind fun p18 => bq (g_X3_chalked F σ1 p18 x1) fun v20 σ19 => some (v20, σ19)) else (some ((-1), σ1)))) else none
theorem w_X0_personIs {B F : Nat} {d : Nat} {σ : MM} {a0 : Nat} {x1 : Int32} {x2 : Int32} {rf : Int32} {σf : MM} (hd : 3 ≤ d) (h : g_X0_personIs F σ a0 x1 x2 = some (rf, σf)) : xMA B yX0_personIs cX0_personIs 3 (some .int) d 0 0 [rv B a0, .int x1, .int x2] σ (some (.int rf)) σf := by
  refine xMA.of (by decide +kernel) (Nat.le_of_ble_eq_true rfl) (cat_rv (cat_int (cat_int cat_nil))) (fun G C E => ?_)
  unfold g_X0_personIs at h
  obtain ⟨-, h⟩ := r_ck h
  refine r_aload_n (pc := 0) (i := 0) C dX0_personIs_0 rfl rfl ?_
  refine r_iload_n (pc := 1) (i := 1) C dX0_personIs_1 rfl rfl ?_
  refine r_callVI (pc := 2) (As := [.int x1]) (st := []) C cs_X0_123_X0_isTold h (fun _ _ e => w_X0_isTold (Nat.le_refl 1) e) (fun _ _ e => t_X0_isTold e) (Nat.le_trans (Nat.le_of_ble_eq_true rfl) hd) (Nat.le_of_ble_eq_true rfl) dX0_personIs_2 (fun v2 σ1 h => ?_)
  refine r_ifne (pc := 5) (tgt := 10) C dX0_personIs_5 (by decide) h (fun h => ?_) (fun h => ?_)
  · refine r_iload_n (pc := 10) (i := 2) C dX0_personIs_10 rfl rfl ?_
    by_cases c0_11 : x2 = 0
    · rw [if_pos c0_11] at h
      refine r_tswE (pc := 11) (tgt := 48) C dX0_personIs_11 c0_11 (by decide) (by decide) rfl (by decide) ?_
      refine r_aload_n (pc := 48) (i := 0) C dX0_personIs_48 rfl rfl ?_
      refine r_getP (pc := 49) C fd_X0_26 rfl dX0_personIs_49 h (fun p3 h => ?_)
      refine r_iload_n (pc := 52) (i := 1) C dX0_personIs_52 rfl rfl ?_
      refine r_iald (pc := 53) C dX0_personIs_53 h (fun v4 h => ?_)
      exact r_iret (pc := 54) C rfl dX0_personIs_54 h E
    rw [if_neg c0_11] at h
    by_cases c1_11 : x2 = 1
    · rw [if_pos c1_11] at h
      refine r_tswE (pc := 11) (tgt := 55) C dX0_personIs_11 c1_11 (by decide) (by decide) rfl (by decide) ?_
      refine r_aload_n (pc := 55) (i := 0) C dX0_personIs_55 rfl rfl ?_
      refine r_getP (pc := 56) C fd_X0_34 rfl dX0_personIs_56 h (fun p5 h => ?_)
      refine r_iload_n (pc := 59) (i := 1) C dX0_personIs_59 rfl rfl ?_
      refine r_iald (pc := 60) C dX0_personIs_60 h (fun v6 h => ?_)
      exact r_iret (pc := 61) C rfl dX0_personIs_61 h E
    rw [if_neg c1_11] at h
    by_cases c2_11 : x2 = 2
    · rw [if_pos c2_11] at h
      refine r_tswE (pc := 11) (tgt := 62) C dX0_personIs_11 c2_11 (by decide) (by decide) rfl (by decide) ?_
      refine r_aload_n (pc := 62) (i := 0) C dX0_personIs_62 rfl rfl ?_
      refine r_getP (pc := 63) C fd_X0_66 rfl dX0_personIs_63 h (fun p7 h => ?_)
      refine r_getP (pc := 66) C fd_X0_131 rfl dX0_personIs_66 h (fun p8 h => ?_)
      refine r_iload_n (pc := 69) (i := 1) C dX0_personIs_69 rfl rfl ?_
      refine r_callVI (pc := 70) (As := [.int x1]) (st := []) C cs_X0_214_X4_owes h (fun _ _ e => w_X4_owes (Nat.le_refl 0) e) (fun _ _ e => t_X4_owes e) (Nat.le_trans (Nat.le_of_ble_eq_true rfl) hd) (Nat.le_of_ble_eq_true rfl) dX0_personIs_70 (fun v10 σ9 h => ?_)
      exact r_iret (pc := 73) C rfl dX0_personIs_73 h E
    rw [if_neg c2_11] at h
    by_cases c3_11 : x2 = 3
    · rw [if_pos c3_11] at h
      refine r_tswE (pc := 11) (tgt := 74) C dX0_personIs_11 c3_11 (by decide) (by decide) rfl (by decide) ?_
      refine r_aload_n (pc := 74) (i := 0) C dX0_personIs_74 rfl rfl ?_
      refine r_getP (pc := 75) C fd_X0_66 rfl dX0_personIs_75 h (fun p11 h => ?_)
      refine r_getP (pc := 78) C fd_X0_131 rfl dX0_personIs_78 h (fun p12 h => ?_)
      refine r_iload_n (pc := 81) (i := 1) C dX0_personIs_81 rfl rfl ?_
      refine r_callVI (pc := 82) (As := [.int x1]) (st := []) C cs_X0_217_X4_gets h (fun _ _ e => w_X4_gets (Nat.le_refl 0) e) (fun _ _ e => t_X4_gets e) (Nat.le_trans (Nat.le_of_ble_eq_true rfl) hd) (Nat.le_of_ble_eq_true rfl) dX0_personIs_82 (fun v14 σ13 h => ?_)
      exact r_iret (pc := 85) C rfl dX0_personIs_85 h E
    rw [if_neg c3_11] at h
    by_cases c4_11 : x2 = 4
    · rw [if_pos c4_11] at h
      refine r_tswE (pc := 11) (tgt := 86) C dX0_personIs_11 c4_11 (by decide) (by decide) rfl (by decide) ?_
      refine r_aload_n (pc := 86) (i := 0) C dX0_personIs_86 rfl rfl ?_
      refine r_getP (pc := 87) C fd_X0_66 rfl dX0_personIs_87 h (fun p15 h => ?_)
      refine r_getP (pc := 90) C fd_X0_211 rfl dX0_personIs_90 h (fun p16 h => ?_)
      refine r_iload_n (pc := 93) (i := 1) C dX0_personIs_93 rfl rfl ?_
      refine r_iald (pc := 94) C dX0_personIs_94 h (fun v17 h => ?_)
      exact r_iret (pc := 95) C rfl dX0_personIs_95 h E
    rw [if_neg c4_11] at h
    by_cases c5_11 : x2 = 5
    · rw [if_pos c5_11] at h
      refine r_tswE (pc := 11) (tgt := 96) C dX0_personIs_11 c5_11 (by decide) (by decide) rfl (by decide) ?_
      refine r_aload_n (pc := 96) (i := 0) C dX0_personIs_96 rfl rfl ?_
      refine r_getP (pc := 97) C fd_X0_66 rfl dX0_personIs_97 h (fun p18 h => ?_)
      refine r_iload_n (pc := 100) (i := 1) C dX0_personIs_100 rfl rfl ?_
      refine r_callVI (pc := 101) (As := [.int x1]) (st := []) C cs_X0_220_X3_chalked h (fun _ _ e => w_X3_chalked (Nat.le_refl 2) e) (fun _ _ e => t_X3_chalked e) (Nat.le_trans (Nat.le_of_ble_eq_true rfl) hd) (Nat.le_of_ble_eq_true rfl) dX0_personIs_101 (fun v20 σ19 h => ?_)
      exact r_iret (pc := 104) C rfl dX0_personIs_104 h E
    rw [if_neg c5_11] at h
    refine r_dfl (st := []) (tgt := 105) (pc := 11) ?_ (fun hD => ?_)
    · refine r_iconst (pc := 105) (v := (-1)) C dX0_personIs_105 (by decide) ?_
      exact r_iret (pc := 106) C rfl dX0_personIs_106 h E
    have n0_11 := tsw_ne (i := 0) c0_11 (by decide)
    have n1_11 := tsw_ne (i := 1) c1_11 (by decide)
    have n2_11 := tsw_ne (i := 2) c2_11 (by decide)
    have n3_11 := tsw_ne (i := 3) c3_11 (by decide)
    have n4_11 := tsw_ne (i := 4) c4_11 (by decide)
    have n5_11 := tsw_ne (i := 5) c5_11 (by decide)
    exact r_tswO (pc := 11) (tgt := 105) C dX0_personIs_11 (by omega) (by decide) hD
  · refine r_iconst (pc := 8) (v := (-1)) C dX0_personIs_8 (by decide) ?_
    exact r_iret (pc := 9) C rfl dX0_personIs_9 h E
theorem t_X0_personIs {F : Nat} {σ : MM} {a0 : Nat} {x1 : Int32} {x2 : Int32} {r : Int32 × MM} (h : g_X0_personIs F σ a0 x1 x2 = some r) : mT σ a0 = (0, 22) := by
  unfold g_X0_personIs at h
  exact (r_ck h).1
def g_X0_areTwo (F : Nat) (σ : MM) (a0 : Nat) (x1 : Int32) (x2 : Int32) : Option (Int32 × MM) := if mT σ a0 = (0, 22) then (bq (g_X0_isTold F σ a0 x1) fun v2 σ1 => if v2 = 0 then (some (0, σ1)) else (bq (g_X0_isTold F σ1 a0 x2) fun v4 σ3 => if v4 = 0 then (some (0, σ3)) else (if x1 = x2 then (some (0, σ3)) else (some (1, σ3))))) else none
theorem w_X0_areTwo {B F : Nat} {d : Nat} {σ : MM} {a0 : Nat} {x1 : Int32} {x2 : Int32} {rf : Int32} {σf : MM} (hd : 2 ≤ d) (h : g_X0_areTwo F σ a0 x1 x2 = some (rf, σf)) : xMA B yX0_areTwo cX0_areTwo 3 (some .boolean) d 0 0 [rv B a0, .int x1, .int x2] σ (some (.int rf)) σf := by
  refine xMA.of (by decide +kernel) (Nat.le_of_ble_eq_true rfl) (cat_rv (cat_int (cat_int cat_nil))) (fun G C E => ?_)
  unfold g_X0_areTwo at h
  obtain ⟨-, h⟩ := r_ck h
  refine r_aload_n (pc := 0) (i := 0) C dX0_areTwo_0 rfl rfl ?_
  refine r_iload_n (pc := 1) (i := 1) C dX0_areTwo_1 rfl rfl ?_
  refine r_callVI (pc := 2) (As := [.int x1]) (st := []) C cs_X0_123_X0_isTold h (fun _ _ e => w_X0_isTold (Nat.le_refl 1) e) (fun _ _ e => t_X0_isTold e) (Nat.le_trans (Nat.le_of_ble_eq_true rfl) hd) (Nat.le_of_ble_eq_true rfl) dX0_areTwo_2 (fun v2 σ1 h => ?_)
  refine r_ifeq (pc := 5) (tgt := 25) C dX0_areTwo_5 (by decide) h (fun h => ?_) (fun h => ?_)
  · refine r_iconst (pc := 25) (v := 0) C dX0_areTwo_25 (by decide) ?_
    exact r_zretL (pc := 26) C rfl dX0_areTwo_26 (Or.inl rfl) h E
  · refine r_aload_n (pc := 8) (i := 0) C dX0_areTwo_8 rfl rfl ?_
    refine r_iload_n (pc := 9) (i := 2) C dX0_areTwo_9 rfl rfl ?_
    refine r_callVI (pc := 10) (As := [.int x2]) (st := []) C cs_X0_123_X0_isTold h (fun _ _ e => w_X0_isTold (Nat.le_refl 1) e) (fun _ _ e => t_X0_isTold e) (Nat.le_trans (Nat.le_of_ble_eq_true rfl) hd) (Nat.le_of_ble_eq_true rfl) dX0_areTwo_10 (fun v4 σ3 h => ?_)
    refine r_ifeq (pc := 13) (tgt := 25) C dX0_areTwo_13 (by decide) h (fun h => ?_) (fun h => ?_)
    · refine r_iconst (pc := 25) (v := 0) C dX0_areTwo_25 (by decide) ?_
      exact r_zretL (pc := 26) C rfl dX0_areTwo_26 (Or.inl rfl) h E
    · refine r_iload_n (pc := 16) (i := 1) C dX0_areTwo_16 rfl rfl ?_
      refine r_iload_n (pc := 17) (i := 2) C dX0_areTwo_17 rfl rfl ?_
      refine r_icmpeq (pc := 18) (tgt := 25) C dX0_areTwo_18 (by decide) h (fun h => ?_) (fun h => ?_)
      · refine r_iconst (pc := 25) (v := 0) C dX0_areTwo_25 (by decide) ?_
        exact r_zretL (pc := 26) C rfl dX0_areTwo_26 (Or.inl rfl) h E
      · refine r_iconst (pc := 21) (v := 1) C dX0_areTwo_21 (by decide) ?_
        refine r_goto (pc := 22) (tgt := 26) C dX0_areTwo_22 (by decide) ?_
        exact r_zretL (pc := 26) C rfl dX0_areTwo_26 (Or.inr rfl) h E
theorem t_X0_areTwo {F : Nat} {σ : MM} {a0 : Nat} {x1 : Int32} {x2 : Int32} {r : Int32 × MM} (h : g_X0_areTwo F σ a0 x1 x2 = some r) : mT σ a0 = (0, 22) := by
  unfold g_X0_areTwo at h
  exact (r_ck h).1
theorem yd_X0_areTwo : xYd yX0_areTwo 2 := ⟨by decide +kernel, by decide +kernel, by decide +kernel⟩
theorem cs_X0_223_X0_areTwo : xCV RX0 223 yX0_areTwo cX0_areTwo 3 (some .boolean) 0 22 2 := ⟨by decide, by decide, _, rfl, yd_X0_areTwo, Or.inl ⟨rfl, lw_V q1073 q1075 qs30 q116 q1076⟩⟩
def g_X0_owes (F : Nat) (σ : MM) (a0 : Nat) (x1 : Int32) (x2 : Int32) : Option (Int32 × MM) := if mT σ a0 = (0, 22) then (bq (g_X0_areTwo F σ a0 x1 x2) fun v2 σ1 => if v2 = 0 then (some ((-1), σ1)) else ((gP σ1 a0 0 22 4).bind fun p3 => (gP σ1 p3 2 16 0).bind fun p4 => (gP σ1 p4 3 1 0).bind fun p5 => (aP σ1 p5 22 x1).bind fun p6 => (aI σ1 p6 20 x2).bind fun v7 => some (v7, σ1))) else none
theorem w_X0_owes {B F : Nat} {d : Nat} {σ : MM} {a0 : Nat} {x1 : Int32} {x2 : Int32} {rf : Int32} {σf : MM} (hd : 3 ≤ d) (h : g_X0_owes F σ a0 x1 x2 = some (rf, σf)) : xMA B yX0_owes cX0_owes 3 (some .int) d 0 0 [rv B a0, .int x1, .int x2] σ (some (.int rf)) σf := by
  refine xMA.of (by decide +kernel) (Nat.le_of_ble_eq_true rfl) (cat_rv (cat_int (cat_int cat_nil))) (fun G C E => ?_)
  unfold g_X0_owes at h
  obtain ⟨-, h⟩ := r_ck h
  refine r_aload_n (pc := 0) (i := 0) C dX0_owes_0 rfl rfl ?_
  refine r_iload_n (pc := 1) (i := 1) C dX0_owes_1 rfl rfl ?_
  refine r_iload_n (pc := 2) (i := 2) C dX0_owes_2 rfl rfl ?_
  refine r_callVI (pc := 3) (As := [.int x1, .int x2]) (st := []) C cs_X0_223_X0_areTwo h (fun _ _ e => w_X0_areTwo (Nat.le_refl 2) e) (fun _ _ e => t_X0_areTwo e) (Nat.le_trans (Nat.le_of_ble_eq_true rfl) hd) (Nat.le_of_ble_eq_true rfl) dX0_owes_3 (fun v2 σ1 h => ?_)
  refine r_ifeq (pc := 6) (tgt := 26) C dX0_owes_6 (by decide) h (fun h => ?_) (fun h => ?_)
  · refine r_iconst (pc := 26) (v := (-1)) C dX0_owes_26 (by decide) ?_
    exact r_iret (pc := 27) C rfl dX0_owes_27 h E
  · refine r_aload_n (pc := 9) (i := 0) C dX0_owes_9 rfl rfl ?_
    refine r_getP (pc := 10) C fd_X0_66 rfl dX0_owes_10 h (fun p3 h => ?_)
    refine r_getP (pc := 13) C fd_X0_131 rfl dX0_owes_13 h (fun p4 h => ?_)
    refine r_getP (pc := 16) C fd_X0_134 rfl dX0_owes_16 h (fun p5 h => ?_)
    refine r_iload_n (pc := 19) (i := 1) C dX0_owes_19 rfl rfl ?_
    refine r_aald (pc := 20) 0 (by decide) C dX0_owes_20 h (fun p6 h => ?_)
    refine r_iload_n (pc := 21) (i := 2) C dX0_owes_21 rfl rfl ?_
    refine r_iald (pc := 22) C dX0_owes_22 h (fun v7 h => ?_)
    refine r_goto (pc := 23) (tgt := 27) C dX0_owes_23 (by decide) ?_
    exact r_iret (pc := 27) C rfl dX0_owes_27 h E
theorem t_X0_owes {F : Nat} {σ : MM} {a0 : Nat} {x1 : Int32} {x2 : Int32} {r : Int32 × MM} (h : g_X0_owes F σ a0 x1 x2 = some r) : mT σ a0 = (0, 22) := by
  unfold g_X0_owes at h
  exact (r_ck h).1
theorem cs_X0_226_X0_likingOf : xCV RX0 226 yX0_likingOf cX0_likingOf 4 (some .int) 0 22 3 := ⟨by decide, by decide, _, rfl, yd_X0_likingOf, Or.inl ⟨rfl, lw_V q1081 q1041 qs29 q116 q1042⟩⟩
def g_X0_likes (F : Nat) (σ : MM) (a0 : Nat) (x1 : Int32) (x2 : Int32) : Option (Int32 × MM) := if mT σ a0 = (0, 22) then (bq (g_X0_areTwo F σ a0 x1 x2) fun v2 σ1 => if v2 = 0 then (some ((-1), σ1)) else ((gP σ1 a0 0 22 4).bind fun p3 => bq (g_X0_likingOf F σ1 a0 p3 x1 x2) fun v5 σ4 => some (v5, σ4))) else none
theorem w_X0_likes {B F : Nat} {d : Nat} {σ : MM} {a0 : Nat} {x1 : Int32} {x2 : Int32} {rf : Int32} {σf : MM} (hd : 134 ≤ d) (h : g_X0_likes F σ a0 x1 x2 = some (rf, σf)) : xMA B yX0_likes cX0_likes 3 (some .int) d 0 0 [rv B a0, .int x1, .int x2] σ (some (.int rf)) σf := by
  refine xMA.of (by decide +kernel) (Nat.le_of_ble_eq_true rfl) (cat_rv (cat_int (cat_int cat_nil))) (fun G C E => ?_)
  unfold g_X0_likes at h
  obtain ⟨-, h⟩ := r_ck h
  refine r_aload_n (pc := 0) (i := 0) C dX0_likes_0 rfl rfl ?_
  refine r_iload_n (pc := 1) (i := 1) C dX0_likes_1 rfl rfl ?_
  refine r_iload_n (pc := 2) (i := 2) C dX0_likes_2 rfl rfl ?_
  refine r_callVI (pc := 3) (As := [.int x1, .int x2]) (st := []) C cs_X0_223_X0_areTwo h (fun _ _ e => w_X0_areTwo (Nat.le_refl 2) e) (fun _ _ e => t_X0_areTwo e) (Nat.le_trans (Nat.le_of_ble_eq_true rfl) hd) (Nat.le_of_ble_eq_true rfl) dX0_likes_3 (fun v2 σ1 h => ?_)
  refine r_ifeq (pc := 6) (tgt := 22) C dX0_likes_6 (by decide) h (fun h => ?_) (fun h => ?_)
  · refine r_iconst (pc := 22) (v := (-1)) C dX0_likes_22 (by decide) ?_
    exact r_iret (pc := 23) C rfl dX0_likes_23 h E
  · refine r_aload_n (pc := 9) (i := 0) C dX0_likes_9 rfl rfl ?_
    refine r_aload_n (pc := 10) (i := 0) C dX0_likes_10 rfl rfl ?_
    refine r_getP (pc := 11) C fd_X0_66 rfl dX0_likes_11 h (fun p3 h => ?_)
    refine r_iload_n (pc := 14) (i := 1) C dX0_likes_14 rfl rfl ?_
    refine r_iload_n (pc := 15) (i := 2) C dX0_likes_15 rfl rfl ?_
    refine r_callVI (pc := 16) (As := [rv B p3, .int x1, .int x2]) (st := []) C cs_X0_226_X0_likingOf h (fun _ _ e => w_X0_likingOf (Nat.le_refl 133) e) (fun _ _ e => t_X0_likingOf e) (Nat.le_trans (Nat.le_of_ble_eq_true rfl) hd) (Nat.le_of_ble_eq_true rfl) dX0_likes_16 (fun v5 σ4 h => ?_)
    refine r_goto (pc := 19) (tgt := 23) C dX0_likes_19 (by decide) ?_
    exact r_iret (pc := 23) C rfl dX0_likes_23 h E
theorem t_X0_likes {F : Nat} {σ : MM} {a0 : Nat} {x1 : Int32} {x2 : Int32} {r : Int32 × MM} (h : g_X0_likes F σ a0 x1 x2 = some r) : mT σ a0 = (0, 22) := by
  unfold g_X0_likes at h
  exact (r_ck h).1
theorem fd_X0_90 : xFg RX0 90 0 22 12 := ⟨_, rfl, rfl, by decide, by decide, in_X0, Or.inl q327⟩
theorem ft_X0_12 : xFt 0 12 (.object "OneCoin$Debts") true := ⟨_, rfl, by decide +kernel, rfl, rfl⟩
theorem yd_X4_areOneRow : xYd yX4_areOneRow 1 := ⟨by decide +kernel, by decide +kernel, by decide +kernel⟩
theorem cs_X0_233_X4_areOneRow : xCV RX0 233 yX4_areOneRow cX4_areOneRow 7 (some .boolean) 3 1 1 := ⟨by decide, by decide, _, rfl, yd_X4_areOneRow, Or.inl ⟨rfl, lw_V q1086 q1087 q1088 q120 q1089⟩⟩
def g_X0_canPay (F : Nat) (σ : MM) (a0 : Nat) (x1 : Int32) (x2 : Int32) : Option (Int32 × MM) := if mT σ a0 = (0, 22) then ((gP σ a0 0 22 12).bind fun p1 => (gP σ p1 3 1 0).bind fun p2 => (aP σ p2 22 x1).bind fun p3 => (aI σ p3 20 x2).bind fun v4 => if v4 = 0 then (some (0, σ)) else ((gP σ a0 0 22 12).bind fun p5 => (gP σ p5 3 1 0).bind fun p6 => (aP σ p6 22 x1).bind fun p7 => (aI σ p7 20 x2).bind fun v8 => (sI σ p7 x2 ((v8 - 1))).bind fun σ9 => (gP σ9 a0 0 22 12).bind fun p10 => bq (g_X4_areOneRow F σ9 p10 x2) fun v12 σ11 => if v12 = 0 then ((gP σ11 a0 0 22 12).bind fun p13 => (gP σ11 p13 3 1 0).bind fun p14 => (aP σ11 p14 22 x1).bind fun p15 => (aI σ11 p15 20 x2).bind fun v16 => (sI σ11 p15 x2 ((v16 + 1))).bind fun σ17 => some (0, σ17)) else (some (1, σ11)))) else none
theorem w_X0_canPay {B F : Nat} {d : Nat} {σ : MM} {a0 : Nat} {x1 : Int32} {x2 : Int32} {rf : Int32} {σf : MM} (hd : 4 ≤ d) (h : g_X0_canPay F σ a0 x1 x2 = some (rf, σf)) : xMA B yX0_canPay cX0_canPay 3 (some .boolean) d 0 0 [rv B a0, .int x1, .int x2] σ (some (.int rf)) σf := by
  refine xMA.of (by decide +kernel) (Nat.le_of_ble_eq_true rfl) (cat_rv (cat_int (cat_int cat_nil))) (fun G C E => ?_)
  unfold g_X0_canPay at h
  obtain ⟨-, h⟩ := r_ck h
  refine r_aload_n (pc := 0) (i := 0) C dX0_canPay_0 rfl rfl ?_
  refine r_getP (pc := 1) C fd_X0_90 rfl dX0_canPay_1 h (fun p1 h => ?_)
  refine r_getP (pc := 4) C fd_X0_134 rfl dX0_canPay_4 h (fun p2 h => ?_)
  refine r_iload_n (pc := 7) (i := 1) C dX0_canPay_7 rfl rfl ?_
  refine r_aald (pc := 8) 0 (by decide) C dX0_canPay_8 h (fun p3 h => ?_)
  refine r_iload_n (pc := 9) (i := 2) C dX0_canPay_9 rfl rfl ?_
  refine r_iald (pc := 10) C dX0_canPay_10 h (fun v4 h => ?_)
  refine r_ifne (pc := 11) (tgt := 16) C dX0_canPay_11 (by decide) h (fun h => ?_) (fun h => ?_)
  · refine r_aload_n (pc := 16) (i := 0) C dX0_canPay_16 rfl rfl ?_
    refine r_getP (pc := 17) C fd_X0_90 rfl dX0_canPay_17 h (fun p5 h => ?_)
    refine r_getP (pc := 20) C fd_X0_134 rfl dX0_canPay_20 h (fun p6 h => ?_)
    refine r_iload_n (pc := 23) (i := 1) C dX0_canPay_23 rfl rfl ?_
    refine r_aald (pc := 24) 0 (by decide) C dX0_canPay_24 h (fun p7 h => ?_)
    refine r_iload_n (pc := 25) (i := 2) C dX0_canPay_25 rfl rfl ?_
    refine r_dup2 (pc := 26) C dX0_canPay_26 ?_
    refine r_iald (pc := 27) C dX0_canPay_27 h (fun v8 h => ?_)
    refine r_iconst (pc := 28) (v := 1) C dX0_canPay_28 (by decide) ?_
    refine r_isub (pc := 29) C dX0_canPay_29 ?_
    refine r_iast (pc := 30) C dX0_canPay_30 h (fun σ9 h => ?_)
    refine r_aload_n (pc := 31) (i := 0) C dX0_canPay_31 rfl rfl ?_
    refine r_getP (pc := 32) C fd_X0_90 rfl dX0_canPay_32 h (fun p10 h => ?_)
    refine r_iload_n (pc := 35) (i := 2) C dX0_canPay_35 rfl rfl ?_
    refine r_callVI (pc := 36) (As := [.int x2]) (st := []) C cs_X0_233_X4_areOneRow h (fun _ _ e => w_X4_areOneRow (Nat.le_refl 3) e) (fun _ _ e => t_X4_areOneRow e) (Nat.le_trans (Nat.le_of_ble_eq_true rfl) hd) (Nat.le_of_ble_eq_true rfl) dX0_canPay_36 (fun v12 σ11 h => ?_)
    refine r_ifeq (pc := 39) (tgt := 44) C dX0_canPay_39 (by decide) h (fun h => ?_) (fun h => ?_)
    · refine r_aload_n (pc := 44) (i := 0) C dX0_canPay_44 rfl rfl ?_
      refine r_getP (pc := 45) C fd_X0_90 rfl dX0_canPay_45 h (fun p13 h => ?_)
      refine r_getP (pc := 48) C fd_X0_134 rfl dX0_canPay_48 h (fun p14 h => ?_)
      refine r_iload_n (pc := 51) (i := 1) C dX0_canPay_51 rfl rfl ?_
      refine r_aald (pc := 52) 0 (by decide) C dX0_canPay_52 h (fun p15 h => ?_)
      refine r_iload_n (pc := 53) (i := 2) C dX0_canPay_53 rfl rfl ?_
      refine r_dup2 (pc := 54) C dX0_canPay_54 ?_
      refine r_iald (pc := 55) C dX0_canPay_55 h (fun v16 h => ?_)
      refine r_iconst (pc := 56) (v := 1) C dX0_canPay_56 (by decide) ?_
      refine r_iadd (pc := 57) C dX0_canPay_57 ?_
      refine r_iast (pc := 58) C dX0_canPay_58 h (fun σ17 h => ?_)
      refine r_iconst (pc := 59) (v := 0) C dX0_canPay_59 (by decide) ?_
      exact r_zretL (pc := 60) C rfl dX0_canPay_60 (Or.inl rfl) h E
    · refine r_iconst (pc := 42) (v := 1) C dX0_canPay_42 (by decide) ?_
      exact r_zretL (pc := 43) C rfl dX0_canPay_43 (Or.inr rfl) h E
  · refine r_iconst (pc := 14) (v := 0) C dX0_canPay_14 (by decide) ?_
    exact r_zretL (pc := 15) C rfl dX0_canPay_15 (Or.inl rfl) h E
theorem t_X0_canPay {F : Nat} {σ : MM} {a0 : Nat} {x1 : Int32} {x2 : Int32} {r : Int32 × MM} (h : g_X0_canPay F σ a0 x1 x2 = some r) : mT σ a0 = (0, 22) := by
  unfold g_X0_canPay at h
  exact (r_ck h).1
theorem yd_X0_canPay : xYd yX0_canPay 2 := ⟨by decide +kernel, by decide +kernel, by decide +kernel⟩
theorem cs_X0_230_X0_canPay : xCV RX0 230 yX0_canPay cX0_canPay 3 (some .boolean) 0 22 2 := ⟨by decide, by decide, _, rfl, yd_X0_canPay, Or.inl ⟨rfl, lw_V q1105 q1107 qs33 q116 q1108⟩⟩
theorem fd_X0_94 : xFg RX0 94 0 22 13 := ⟨_, rfl, rfl, by decide, by decide, in_X0, Or.inl q328⟩
theorem ft_X0_13 : xFt 0 13 (.array .int) true := ⟨_, rfl, by decide +kernel, rfl, rfl⟩
def l_X0_laysTour_29 (K : Int32 → MM → Option (Int32 × MM)) (F : Nat) (a0 : Nat) (x2 : Int32) (x3 : Int32) (x4 : Int32) : Nat → Int32 → MM → Option (Int32 × MM)
  | 0, _, _ => none
  | f + 1, z5, σ => bq (g_X0_canPay F σ a0 x3 z5) fun v7 σ6 => if v7 = 0 then (l_X0_laysTour_29 K F a0 x2 x3 x4 f ((z5 + 1)) σ6) else (K z5 σ6)
def l_X0_laysTour_20 (K : Int32 → MM → Option (Int32 × MM)) (F : Nat) (a0 : Nat) (x2 : Int32) : Nat → Int32 → Int32 → MM → Option (Int32 × MM)
  | 0, _, _, _ => none
  | f + 1, z3, z4, σ => if z4 < x2 then (l_X0_laysTour_29 (fun (r5_9 : Int32) (σ8 : MM) => (gP σ8 a0 0 22 13).bind fun p10 => (sI σ8 p10 z4 r5_9).bind fun σ11 => l_X0_laysTour_20 K F a0 x2 f r5_9 ((z4 + 1)) σ11) F a0 x2 z3 z4 F 0 σ) else (K z3 σ)
def g_X0_laysTour (F : Nat) (σ : MM) (a0 : Nat) (x1 : Int32) (x2 : Int32) : Option (Int32 × MM) := if mT σ a0 = (0, 22) then ((gP σ a0 0 22 12).bind fun p1 => (gP σ a0 0 22 4).bind fun p2 => (gP σ p2 2 16 0).bind fun p3 => bq (g_X4_takes F σ p1 p3) fun p5 σ4 => l_X0_laysTour_20 (fun (r3_13 : Int32) (σ12 : MM) => some (r3_13, σ12)) F a0 x2 F x1 0 σ4) else none
theorem wl_X0_laysTour_29 {B : Nat} {G : XG} {d : Nat} {rf : Int32} {σf : MM} (hd : 5 ≤ d) (C : xC B G yX0_laysTour cX0_laysTour 6 (some .int) d 0 0) (E : xEnd B G (some (.int rf)) σf 0 0) {K : Int32 → MM → Option (Int32 × MM)} {F : Nat} {a0 : Nat} {x2 : Int32} {x3 : Int32} {x4 : Int32} (hK : ∀ (q5 : Int32) (σ : MM), K q5 σ = some (rf, σf) → xV B G 0 0 σ 45 [(0, rv B a0), (2, .int x2), (4, .int x4), (5, .int q5)] []) : ∀ (f : Nat) (z5 : Int32) (σ : MM), l_X0_laysTour_29 K F a0 x2 x3 x4 f z5 σ = some (rf, σf) → xV B G 0 0 σ 29 [(0, rv B a0), (2, .int x2), (3, .int x3), (4, .int x4), (5, .int z5)] [] := by
  intro f
  induction f with
  | zero =>
    intro z5 σ h
    have h : none = some (rf, σf) := h
    cases h
  | succ f ih =>
    intro z5 σ h
    rw [l_X0_laysTour_29.eq_2] at h
    refine r_aload_n (pc := 29) (i := 0) C dX0_laysTour_29 rfl rfl ?_
    refine r_iload_n (pc := 30) (i := 3) C dX0_laysTour_30 rfl rfl ?_
    refine r_iload (pc := 31) (i := 5) C dX0_laysTour_31 rfl ?_
    refine r_callVI (pc := 33) (As := [.int x3, .int z5]) (st := []) C cs_X0_230_X0_canPay h (fun _ _ e => w_X0_canPay (Nat.le_refl 4) e) (fun _ _ e => t_X0_canPay e) (Nat.le_trans (Nat.le_of_ble_eq_true rfl) hd) (Nat.le_of_ble_eq_true rfl) dX0_laysTour_33 (fun v7 σ6 h => ?_)
    refine r_ifne (pc := 36) (tgt := 45) C dX0_laysTour_36 (by decide) h (fun h => ?_) (fun h => ?_)
    · refine r_pick (lv' := [(0, rv B a0), (2, .int x2), (4, .int x4), (5, .int z5)]) [0, 2, 4, 5] rfl ?_
      exact hK _ _ h
    · refine r_iinc (pc := 39) (i := 5) (v := (z5 + 1)) C dX0_laysTour_39 rfl rfl (by decide) ?_
      refine r_goto (pc := 42) (tgt := 29) C dX0_laysTour_42 (by decide) ?_
      refine r_pick (lv' := [(0, rv B a0), (2, .int x2), (3, .int x3), (4, .int x4), (5, .int (z5 + 1))]) [0, 2, 3, 4, 5] rfl ?_
      exact ih _ _ h
theorem wl_X0_laysTour_20 {B : Nat} {G : XG} {d : Nat} {rf : Int32} {σf : MM} (hd : 5 ≤ d) (C : xC B G yX0_laysTour cX0_laysTour 6 (some .int) d 0 0) (E : xEnd B G (some (.int rf)) σf 0 0) {K : Int32 → MM → Option (Int32 × MM)} {F : Nat} {a0 : Nat} {x2 : Int32} (hK : ∀ (q3 : Int32) (σ : MM), K q3 σ = some (rf, σf) → xV B G 0 0 σ 63 [(3, .int q3)] []) : ∀ (f : Nat) (z3 : Int32) (z4 : Int32) (σ : MM), l_X0_laysTour_20 K F a0 x2 f z3 z4 σ = some (rf, σf) → xV B G 0 0 σ 20 [(0, rv B a0), (2, .int x2), (3, .int z3), (4, .int z4)] [] := by
  intro f
  induction f with
  | zero =>
    intro z3 z4 σ h
    have h : none = some (rf, σf) := h
    cases h
  | succ f ih =>
    intro z3 z4 σ h
    rw [l_X0_laysTour_20.eq_2] at h
    refine r_iload (pc := 20) (i := 4) C dX0_laysTour_20 rfl ?_
    refine r_iload_n (pc := 22) (i := 2) C dX0_laysTour_22 rfl rfl ?_
    refine r_icmpge (pc := 23) (tgt := 63) C dX0_laysTour_23 (by decide) h (fun h => ?_) (fun h => ?_)
    · refine r_pick (lv' := [(3, .int z3)]) [3] rfl ?_
      exact hK _ _ h
    · refine r_iconst (pc := 26) (v := 0) C dX0_laysTour_26 (by decide) ?_
      refine r_istore (pc := 27) (i := 5) C dX0_laysTour_27 (by decide) ?_
      refine r_pick (lv' := [(0, rv B a0), (2, .int x2), (3, .int z3), (4, .int z4), (5, .int 0)]) [0, 2, 3, 4, 5] rfl ?_
      refine wl_X0_laysTour_29 hd C E (fun r5_9 σ8 h => ?_) _ _ _ h
      refine r_aload_n (pc := 45) (i := 0) C dX0_laysTour_45 rfl rfl ?_
      refine r_getP (pc := 46) C fd_X0_94 rfl dX0_laysTour_46 h (fun p10 h => ?_)
      refine r_iload (pc := 49) (i := 4) C dX0_laysTour_49 rfl ?_
      refine r_iload (pc := 51) (i := 5) C dX0_laysTour_51 rfl ?_
      refine r_iast (pc := 53) C dX0_laysTour_53 h (fun σ11 h => ?_)
      refine r_iload (pc := 54) (i := 5) C dX0_laysTour_54 rfl ?_
      refine r_istore_n (pc := 56) (i := 3) C dX0_laysTour_56 rfl (by decide) ?_
      refine r_iinc (pc := 57) (i := 4) (v := (z4 + 1)) C dX0_laysTour_57 rfl rfl (by decide) ?_
      refine r_goto (pc := 60) (tgt := 20) C dX0_laysTour_60 (by decide) ?_
      refine r_pick (lv' := [(0, rv B a0), (2, .int x2), (3, .int r5_9), (4, .int (z4 + 1))]) [0, 2, 3, 4] rfl ?_
      exact ih _ _ _ h
theorem w_X0_laysTour {B F : Nat} {d : Nat} {σ : MM} {a0 : Nat} {x1 : Int32} {x2 : Int32} {rf : Int32} {σf : MM} (hd : 5 ≤ d) (h : g_X0_laysTour F σ a0 x1 x2 = some (rf, σf)) : xMA B yX0_laysTour cX0_laysTour 6 (some .int) d 0 0 [rv B a0, .int x1, .int x2] σ (some (.int rf)) σf := by
  refine xMA.of (by decide +kernel) (Nat.le_of_ble_eq_true rfl) (cat_rv (cat_int (cat_int cat_nil))) (fun G C E => ?_)
  unfold g_X0_laysTour at h
  obtain ⟨-, h⟩ := r_ck h
  refine r_aload_n (pc := 0) (i := 0) C dX0_laysTour_0 rfl rfl ?_
  refine r_getP (pc := 1) C fd_X0_90 rfl dX0_laysTour_1 h (fun p1 h => ?_)
  refine r_aload_n (pc := 4) (i := 0) C dX0_laysTour_4 rfl rfl ?_
  refine r_getP (pc := 5) C fd_X0_66 rfl dX0_laysTour_5 h (fun p2 h => ?_)
  refine r_getP (pc := 8) C fd_X0_131 rfl dX0_laysTour_8 h (fun p3 h => ?_)
  refine r_callVP (pc := 11) (As := [rv B p3]) (st := []) C cs_X0_167_X4_takes h (fun _ _ e => w_X4_takes (Nat.le_refl 0) e) (fun _ _ e => t_X4_takes e) (Nat.le_trans (Nat.le_of_ble_eq_true rfl) hd) (Nat.le_of_ble_eq_true rfl) dX0_laysTour_11 (fun p5 σ4 h => ?_)
  refine r_pop (pc := 14) C dX0_laysTour_14 ?_
  refine r_iload_n (pc := 15) (i := 1) C dX0_laysTour_15 rfl rfl ?_
  refine r_istore_n (pc := 16) (i := 3) C dX0_laysTour_16 rfl (by decide) ?_
  refine r_iconst (pc := 17) (v := 0) C dX0_laysTour_17 (by decide) ?_
  refine r_istore (pc := 18) (i := 4) C dX0_laysTour_18 (by decide) ?_
  refine r_pick (lv' := [(0, rv B a0), (2, .int x2), (3, .int x1), (4, .int 0)]) [0, 2, 3, 4] rfl ?_
  refine wl_X0_laysTour_20 hd C E (fun r3_13 σ12 h => ?_) _ _ _ _ h
  refine r_iload_n (pc := 63) (i := 3) C dX0_laysTour_63 rfl rfl ?_
  exact r_iret (pc := 64) C rfl dX0_laysTour_64 h E
theorem t_X0_laysTour {F : Nat} {σ : MM} {a0 : Nat} {x1 : Int32} {x2 : Int32} {r : Int32 × MM} (h : g_X0_laysTour F σ a0 x1 x2 = some r) : mT σ a0 = (0, 22) := by
  unfold g_X0_laysTour at h
  exact (r_ck h).1
theorem yd_X0_laysTour : xYd yX0_laysTour 2 := ⟨by decide +kernel, by decide +kernel, by decide +kernel⟩
theorem cs_X0_236_X0_laysTour : xCV RX0 236 yX0_laysTour cX0_laysTour 6 (some .int) 0 22 2 := ⟨by decide, by decide, _, rfl, yd_X0_laysTour, Or.inl ⟨rfl, lw_V q1101 q1103 qs32 q116 q1104⟩⟩
def g_X0_tour (F : Nat) (σ : MM) (a0 : Nat) (x1 : Int32) : Option (Int32 × MM) := if mT σ a0 = (0, 22) then (bq (g_X0_within F σ x1 100 102) fun v2 σ1 => jn (fun (σ3 : MM) => (gP σ3 a0 0 22 4).bind fun p5 => (gI σ3 p5 2 16 3).bind fun v6 => if v6 = (-1) then (some ((-2), σ3)) else ((gP σ3 a0 0 22 4).bind fun p7 => (gP σ3 p7 2 16 0).bind fun p8 => bq (g_X4_all F σ3 p8) fun v10 σ9 => if 60 < v10 then (some ((-3), σ9)) else (if x1 = 101 then (some (v10, σ9)) else ((gP σ9 a0 0 22 4).bind fun p11 => (gP σ9 p11 2 16 0).bind fun p12 => (gP σ9 a0 0 22 4).bind fun p13 => (gI σ9 p13 2 16 3).bind fun v14 => bq (g_X4_areOneRow F σ9 p12 v14) fun v16 σ15 => if x1 = 100 then (if v16 = 0 then (some (0, σ15)) else (some (1, σ15))) else (if v16 = 0 then (some ((-4), σ15)) else (jn (fun (σ17 : MM) => (gP σ17 a0 0 22 4).bind fun p19 => (gI σ17 p19 2 16 3).bind fun v20 => bq (g_X0_laysTour F σ17 a0 v20 v10) fun v22 σ21 => if x1 < 60 then ((gP σ21 a0 0 22 13).bind fun p25 => (aI σ21 p25 20 x1).bind fun v26 => some (v26, σ21)) else ((gP σ21 a0 0 22 4).bind fun p23 => (gI σ21 p23 2 16 3).bind fun v24 => if v22 = v24 then (some (1, σ21)) else (some (0, σ21)))) (fun k18 => if x1 < 60 then (if x1 < v10 then (k18 σ15) else (some ((-4), σ15))) else (k18 σ15)))))))) (fun k4 => if v2 = 0 then (bq (g_X0_in F σ1 x1 60) fun v28 σ27 => if v28 = 0 then (some ((-1), σ27)) else (k4 σ27)) else (k4 σ1))) else none
theorem w_X0_tour {B F : Nat} {d : Nat} {σ : MM} {a0 : Nat} {x1 : Int32} {rf : Int32} {σf : MM} (hd : 6 ≤ d) (h : g_X0_tour F σ a0 x1 = some (rf, σf)) : xMA B yX0_tour cX0_tour 5 (some .int) d 0 0 [rv B a0, .int x1] σ (some (.int rf)) σf := by
  refine xMA.of (by decide +kernel) (Nat.le_of_ble_eq_true rfl) (cat_rv (cat_int cat_nil)) (fun G C E => ?_)
  unfold g_X0_tour at h
  obtain ⟨-, h⟩ := r_ck h
  refine r_iload_n (pc := 0) (i := 1) C dX0_tour_0 rfl rfl ?_
  refine r_bipush (pc := 1) (v := 100) C dX0_tour_1 (by decide) ?_
  refine r_bipush (pc := 3) (v := 102) C dX0_tour_3 (by decide) ?_
  refine r_callSI (pc := 5) (As := [.int x1, .int 100, .int 102]) (st := []) C cs_X0_127_X0_within h (fun _ _ e => w_X0_within (Nat.le_refl 0) e) (Nat.le_trans (Nat.le_of_ble_eq_true rfl) hd) (Nat.le_of_ble_eq_true rfl) dX0_tour_5 (fun v2 σ1 h => ?_)
  refine r_jn (fun k9 => ∀  (σ3 : MM), k9 σ3 = some (rf, σf) → xV B G 0 0 σ3 22 [(0, rv B a0), (1, .int x1)] []) h (fun  σ3 h => ?_) (fun k4 hk4 h => ?_)
  · refine r_aload_n (pc := 22) (i := 0) C dX0_tour_22 rfl rfl ?_
    refine r_getP (pc := 23) C fd_X0_66 rfl dX0_tour_23 h (fun p5 h => ?_)
    refine r_getI (pc := 26) C fd_X0_137 rfl dX0_tour_26 h (fun v6 h => ?_)
    refine r_iconst (pc := 29) (v := (-1)) C dX0_tour_29 (by decide) ?_
    refine r_icmpne (pc := 30) (tgt := 36) C dX0_tour_30 (by decide) h (fun h => ?_) (fun h => ?_)
    · refine r_aload_n (pc := 36) (i := 0) C dX0_tour_36 rfl rfl ?_
      refine r_getP (pc := 37) C fd_X0_66 rfl dX0_tour_37 h (fun p7 h => ?_)
      refine r_getP (pc := 40) C fd_X0_131 rfl dX0_tour_40 h (fun p8 h => ?_)
      refine r_callVI (pc := 43) (As := []) (st := []) C cs_X0_199_X4_all h (fun _ _ e => w_X4_all (Nat.le_refl 1) e) (fun _ _ e => t_X4_all e) (Nat.le_trans (Nat.le_of_ble_eq_true rfl) hd) (Nat.le_of_ble_eq_true rfl) dX0_tour_43 (fun v10 σ9 h => ?_)
      refine r_istore_n (pc := 46) (i := 2) C dX0_tour_46 rfl (by decide) ?_
      refine r_iload_n (pc := 47) (i := 2) C dX0_tour_47 rfl rfl ?_
      refine r_bipush (pc := 48) (v := 60) C dX0_tour_48 (by decide) ?_
      refine r_icmple (pc := 50) (tgt := 56) C dX0_tour_50 (by decide) h (fun h => ?_) (fun h => ?_)
      · refine r_iload_n (pc := 56) (i := 1) C dX0_tour_56 rfl rfl ?_
        refine r_bipush (pc := 57) (v := 101) C dX0_tour_57 (by decide) ?_
        refine r_icmpne (pc := 59) (tgt := 64) C dX0_tour_59 (by decide) h (fun h => ?_) (fun h => ?_)
        · refine r_aload_n (pc := 64) (i := 0) C dX0_tour_64 rfl rfl ?_
          refine r_getP (pc := 65) C fd_X0_66 rfl dX0_tour_65 h (fun p11 h => ?_)
          refine r_getP (pc := 68) C fd_X0_131 rfl dX0_tour_68 h (fun p12 h => ?_)
          refine r_aload_n (pc := 71) (i := 0) C dX0_tour_71 rfl rfl ?_
          refine r_getP (pc := 72) C fd_X0_66 rfl dX0_tour_72 h (fun p13 h => ?_)
          refine r_getI (pc := 75) C fd_X0_137 rfl dX0_tour_75 h (fun v14 h => ?_)
          refine r_callVI (pc := 78) (As := [.int v14]) (st := []) C cs_X0_233_X4_areOneRow h (fun _ _ e => w_X4_areOneRow (Nat.le_refl 3) e) (fun _ _ e => t_X4_areOneRow e) (Nat.le_trans (Nat.le_of_ble_eq_true rfl) hd) (Nat.le_of_ble_eq_true rfl) dX0_tour_78 (fun v16 σ15 h => ?_)
          refine r_istore_n (pc := 81) (i := 3) C dX0_tour_81 rfl (by decide) ?_
          refine r_iload_n (pc := 82) (i := 1) C dX0_tour_82 rfl rfl ?_
          refine r_bipush (pc := 83) (v := 100) C dX0_tour_83 (by decide) ?_
          refine r_icmpne (pc := 85) (tgt := 98) C dX0_tour_85 (by decide) h (fun h => ?_) (fun h => ?_)
          · refine r_iload_n (pc := 98) (i := 3) C dX0_tour_98 rfl rfl ?_
            refine r_ifeq (pc := 99) (tgt := 113) C dX0_tour_99 (by decide) h (fun h => ?_) (fun h => ?_)
            · refine r_bipush (pc := 113) (v := (-4)) C dX0_tour_113 (by decide) ?_
              exact r_iret (pc := 115) C rfl dX0_tour_115 h E
            · refine r_iload_n (pc := 102) (i := 1) C dX0_tour_102 rfl rfl ?_
              refine r_bipush (pc := 103) (v := 60) C dX0_tour_103 (by decide) ?_
              refine r_jn (fun k9 => ∀  (σ17 : MM), k9 σ17 = some (rf, σf) → xV B G 0 0 σ17 116 [(0, rv B a0), (1, .int x1), (2, .int v10)] []) h (fun  σ17 h => ?_) (fun k18 hk18 h => ?_)
              · refine r_aload_n (pc := 116) (i := 0) C dX0_tour_116 rfl rfl ?_
                refine r_aload_n (pc := 117) (i := 0) C dX0_tour_117 rfl rfl ?_
                refine r_getP (pc := 118) C fd_X0_66 rfl dX0_tour_118 h (fun p19 h => ?_)
                refine r_getI (pc := 121) C fd_X0_137 rfl dX0_tour_121 h (fun v20 h => ?_)
                refine r_iload_n (pc := 124) (i := 2) C dX0_tour_124 rfl rfl ?_
                refine r_callVI (pc := 125) (As := [.int v20, .int v10]) (st := []) C cs_X0_236_X0_laysTour h (fun _ _ e => w_X0_laysTour (Nat.le_refl 5) e) (fun _ _ e => t_X0_laysTour e) (Nat.le_trans (Nat.le_of_ble_eq_true rfl) hd) (Nat.le_of_ble_eq_true rfl) dX0_tour_125 (fun v22 σ21 h => ?_)
                refine r_istore (pc := 128) (i := 4) C dX0_tour_128 (by decide) ?_
                refine r_iload_n (pc := 130) (i := 1) C dX0_tour_130 rfl rfl ?_
                refine r_bipush (pc := 131) (v := 60) C dX0_tour_131 (by decide) ?_
                refine r_icmpge (pc := 133) (tgt := 145) C dX0_tour_133 (by decide) h (fun h => ?_) (fun h => ?_)
                · refine r_iload (pc := 145) (i := 4) C dX0_tour_145 rfl ?_
                  refine r_aload_n (pc := 147) (i := 0) C dX0_tour_147 rfl rfl ?_
                  refine r_getP (pc := 148) C fd_X0_66 rfl dX0_tour_148 h (fun p23 h => ?_)
                  refine r_getI (pc := 151) C fd_X0_137 rfl dX0_tour_151 h (fun v24 h => ?_)
                  refine r_icmpne (pc := 154) (tgt := 161) C dX0_tour_154 (by decide) h (fun h => ?_) (fun h => ?_)
                  · refine r_iconst (pc := 161) (v := 0) C dX0_tour_161 (by decide) ?_
                    exact r_iret (pc := 162) C rfl dX0_tour_162 h E
                  · refine r_iconst (pc := 157) (v := 1) C dX0_tour_157 (by decide) ?_
                    refine r_goto (pc := 158) (tgt := 162) C dX0_tour_158 (by decide) ?_
                    exact r_iret (pc := 162) C rfl dX0_tour_162 h E
                · refine r_aload_n (pc := 136) (i := 0) C dX0_tour_136 rfl rfl ?_
                  refine r_getP (pc := 137) C fd_X0_94 rfl dX0_tour_137 h (fun p25 h => ?_)
                  refine r_iload_n (pc := 140) (i := 1) C dX0_tour_140 rfl rfl ?_
                  refine r_iald (pc := 141) C dX0_tour_141 h (fun v26 h => ?_)
                  refine r_goto (pc := 142) (tgt := 162) C dX0_tour_142 (by decide) ?_
                  exact r_iret (pc := 162) C rfl dX0_tour_162 h E
              · refine r_icmpge (pc := 105) (tgt := 116) C dX0_tour_105 (by decide) h (fun h => ?_) (fun h => ?_)
                · refine r_pick (lv' := [(0, rv B a0), (1, .int x1), (2, .int v10)]) [0, 1, 2] rfl ?_
                  exact hk18 _ h
                · refine r_iload_n (pc := 108) (i := 1) C dX0_tour_108 rfl rfl ?_
                  refine r_iload_n (pc := 109) (i := 2) C dX0_tour_109 rfl rfl ?_
                  refine r_icmplt (pc := 110) (tgt := 116) C dX0_tour_110 (by decide) h (fun h => ?_) (fun h => ?_)
                  · refine r_pick (lv' := [(0, rv B a0), (1, .int x1), (2, .int v10)]) [0, 1, 2] rfl ?_
                    exact hk18 _ h
                  · refine r_bipush (pc := 113) (v := (-4)) C dX0_tour_113 (by decide) ?_
                    exact r_iret (pc := 115) C rfl dX0_tour_115 h E
          · refine r_iload_n (pc := 88) (i := 3) C dX0_tour_88 rfl rfl ?_
            refine r_ifeq (pc := 89) (tgt := 96) C dX0_tour_89 (by decide) h (fun h => ?_) (fun h => ?_)
            · refine r_iconst (pc := 96) (v := 0) C dX0_tour_96 (by decide) ?_
              exact r_iret (pc := 97) C rfl dX0_tour_97 h E
            · refine r_iconst (pc := 92) (v := 1) C dX0_tour_92 (by decide) ?_
              refine r_goto (pc := 93) (tgt := 97) C dX0_tour_93 (by decide) ?_
              exact r_iret (pc := 97) C rfl dX0_tour_97 h E
        · refine r_iload_n (pc := 62) (i := 2) C dX0_tour_62 rfl rfl ?_
          exact r_iret (pc := 63) C rfl dX0_tour_63 h E
      · refine r_bipush (pc := 53) (v := (-3)) C dX0_tour_53 (by decide) ?_
        exact r_iret (pc := 55) C rfl dX0_tour_55 h E
    · refine r_bipush (pc := 33) (v := (-2)) C dX0_tour_33 (by decide) ?_
      exact r_iret (pc := 35) C rfl dX0_tour_35 h E
  · refine r_ifne (pc := 8) (tgt := 22) C dX0_tour_8 (by decide) h (fun h => ?_) (fun h => ?_)
    · refine r_pick (lv' := [(0, rv B a0), (1, .int x1)]) [0, 1] rfl ?_
      exact hk4 _ h
    · refine r_iload_n (pc := 11) (i := 1) C dX0_tour_11 rfl rfl ?_
      refine r_bipush (pc := 12) (v := 60) C dX0_tour_12 (by decide) ?_
      refine r_callSI (pc := 14) (As := [.int x1, .int 60]) (st := []) C cs_X0_15_X0_in h (fun _ _ e => w_X0_in (Nat.le_refl 0) e) (Nat.le_trans (Nat.le_of_ble_eq_true rfl) hd) (Nat.le_of_ble_eq_true rfl) dX0_tour_14 (fun v28 σ27 h => ?_)
      refine r_ifne (pc := 17) (tgt := 22) C dX0_tour_17 (by decide) h (fun h => ?_) (fun h => ?_)
      · refine r_pick (lv' := [(0, rv B a0), (1, .int x1)]) [0, 1] rfl ?_
        exact hk4 _ h
      · refine r_iconst (pc := 20) (v := (-1)) C dX0_tour_20 (by decide) ?_
        exact r_iret (pc := 21) C rfl dX0_tour_21 h E
theorem t_X0_tour {F : Nat} {σ : MM} {a0 : Nat} {x1 : Int32} {r : Int32 × MM} (h : g_X0_tour F σ a0 x1 = some r) : mT σ a0 = (0, 22) := by
  unfold g_X0_tour at h
  exact (r_ck h).1
theorem fd_X0_239 : xFg RX0 239 0 22 15 := ⟨_, rfl, rfl, by decide, by decide, in_X0, Or.inl q330⟩
theorem ft_X0_15 : xFt 0 15 .int false := ⟨_, rfl, by decide +kernel, rfl, rfl⟩
theorem yd_X0_longest : xYd yX0_longest 2 := ⟨by decide +kernel, by decide +kernel, by decide +kernel⟩
theorem cs_X0_242_X0_longest : xCV RX0 242 yX0_longest cX0_longest 4 none 0 22 2 := ⟨by decide, by decide, _, rfl, yd_X0_longest, Or.inl ⟨rfl, lw_V q1113 q1115 qs34 q116 q1116⟩⟩
theorem fd_X0_97 : xFg RX0 97 0 22 14 := ⟨_, rfl, rfl, by decide, by decide, in_X0, Or.inl q329⟩
theorem ft_X0_14 : xFt 0 14 (.array .int) true := ⟨_, rfl, by decide +kernel, rfl, rfl⟩
def l_X0_longest_40 (rec : MM → Nat → Int32 → Int32 → Option (MM)) (K : MM → Option (MM)) (F : Nat) (a0 : Nat) (x1 : Int32) (x2 : Int32) : Nat → Int32 → MM → Option (MM)
  | 0, _, _ => none
  | f + 1, z3, σ => if z3 < 10 then ((gP σ a0 0 22 12).bind fun p4 => (gP σ p4 3 1 0).bind fun p5 => (aP σ p5 22 x1).bind fun p6 => (aI σ p6 20 z3).bind fun v7 => if v7 = 0 then (l_X0_longest_40 rec K F a0 x1 x2 f ((z3 + 1)) σ) else ((gP σ a0 0 22 12).bind fun p8 => (gP σ p8 3 1 0).bind fun p9 => (aP σ p9 22 x1).bind fun p10 => (aI σ p10 20 z3).bind fun v11 => (sI σ p10 z3 ((v11 - 1))).bind fun σ12 => (gP σ12 a0 0 22 13).bind fun p13 => (sI σ12 p13 x2 z3).bind fun σ14 => (rec σ14 a0 z3 ((x2 + 1))).bind fun σ15 => (gP σ15 a0 0 22 12).bind fun p16 => (gP σ15 p16 3 1 0).bind fun p17 => (aP σ15 p17 22 x1).bind fun p18 => (aI σ15 p18 20 z3).bind fun v19 => (sI σ15 p18 z3 ((v19 + 1))).bind fun σ20 => l_X0_longest_40 rec K F a0 x1 x2 f ((z3 + 1)) σ20)) else (K σ)
def l_X0_longest_15 (rec : MM → Nat → Int32 → Int32 → Option (MM)) (K : MM → Option (MM)) (F : Nat) (a0 : Nat) (x1 : Int32) (x2 : Int32) : Nat → Int32 → MM → Option (MM)
  | 0, _, _ => none
  | f + 1, z3, σ => if z3 < x2 then ((gP σ a0 0 22 14).bind fun p23 => (gP σ a0 0 22 13).bind fun p24 => (aI σ p24 20 z3).bind fun v25 => (sI σ p23 z3 v25).bind fun σ26 => l_X0_longest_15 rec K F a0 x1 x2 f ((z3 + 1)) σ26) else (K σ)
def s_X0_longest (F : Nat) (rec : MM → Nat → Int32 → Int32 → Option (MM)) (σ : MM) (a0 : Nat) (x1 : Int32) (x2 : Int32) : Option (MM) := if mT σ a0 = (0, 22) then ((gI σ a0 0 22 15).bind fun v1 => jn (fun (σ2 : MM) => l_X0_longest_40 rec (fun (σ21 : MM) => some σ21) F a0 x1 x2 F 0 σ2) (fun k3 => if v1 < x2 then ((pI σ a0 0 22 15 x2).bind fun σ22 => l_X0_longest_15 rec (fun (σ27 : MM) => k3 σ27) F a0 x1 x2 F 0 σ22) else (k3 σ))) else none
theorem wl_X0_longest_40 {B : Nat} {G : XG} {d : Nat} {σf : MM} {rec : MM → Nat → Int32 → Int32 → Option (MM)} {dr : Nat} (hrec : ∀ (σ : MM) (b0 : Nat) (c1 : Int32) (c2 : Int32) (σ' : MM), rec σ b0 c1 c2 = some σ' → xMA B yX0_longest cX0_longest 4 none dr 0 0 [rv B b0, .int c1, .int c2] σ none σ' ∧ mT σ b0 = (0, 22)) (hd : dr + 1 ≤ d) (hd2 : 0 ≤ d) (C : xC B G yX0_longest cX0_longest 4 none d 0 0) (E : xEnd B G none σf 0 0) {K : MM → Option (MM)} {F : Nat} {a0 : Nat} {x1 : Int32} {x2 : Int32} (hK : ∀ (σ : MM), K σ = some σf → xV B G 0 0 σ 114 [] []) : ∀ (f : Nat) (z3 : Int32) (σ : MM), l_X0_longest_40 rec K F a0 x1 x2 f z3 σ = some σf → xV B G 0 0 σ 40 [(0, rv B a0), (1, .int x1), (2, .int x2), (3, .int z3)] [] := by
  intro f
  induction f with
  | zero =>
    intro z3 σ h
    have h : none = some σf := h
    cases h
  | succ f ih =>
    intro z3 σ h
    rw [l_X0_longest_40.eq_2] at h
    refine r_iload_n (pc := 40) (i := 3) C dX0_longest_40 rfl rfl ?_
    refine r_bipush (pc := 41) (v := 10) C dX0_longest_41 (by decide) ?_
    refine r_icmpge (pc := 43) (tgt := 114) C dX0_longest_43 (by decide) h (fun h => ?_) (fun h => ?_)
    · refine r_pick (lv' := []) [] rfl ?_
      exact hK _ h
    · refine r_aload_n (pc := 46) (i := 0) C dX0_longest_46 rfl rfl ?_
      refine r_getP (pc := 47) C fd_X0_90 rfl dX0_longest_47 h (fun p4 h => ?_)
      refine r_getP (pc := 50) C fd_X0_134 rfl dX0_longest_50 h (fun p5 h => ?_)
      refine r_iload_n (pc := 53) (i := 1) C dX0_longest_53 rfl rfl ?_
      refine r_aald (pc := 54) 0 (by decide) C dX0_longest_54 h (fun p6 h => ?_)
      refine r_iload_n (pc := 55) (i := 3) C dX0_longest_55 rfl rfl ?_
      refine r_iald (pc := 56) C dX0_longest_56 h (fun v7 h => ?_)
      refine r_ifne (pc := 57) (tgt := 63) C dX0_longest_57 (by decide) h (fun h => ?_) (fun h => ?_)
      · refine r_aload_n (pc := 63) (i := 0) C dX0_longest_63 rfl rfl ?_
        refine r_getP (pc := 64) C fd_X0_90 rfl dX0_longest_64 h (fun p8 h => ?_)
        refine r_getP (pc := 67) C fd_X0_134 rfl dX0_longest_67 h (fun p9 h => ?_)
        refine r_iload_n (pc := 70) (i := 1) C dX0_longest_70 rfl rfl ?_
        refine r_aald (pc := 71) 0 (by decide) C dX0_longest_71 h (fun p10 h => ?_)
        refine r_iload_n (pc := 72) (i := 3) C dX0_longest_72 rfl rfl ?_
        refine r_dup2 (pc := 73) C dX0_longest_73 ?_
        refine r_iald (pc := 74) C dX0_longest_74 h (fun v11 h => ?_)
        refine r_iconst (pc := 75) (v := 1) C dX0_longest_75 (by decide) ?_
        refine r_isub (pc := 76) C dX0_longest_76 ?_
        refine r_iast (pc := 77) C dX0_longest_77 h (fun σ12 h => ?_)
        refine r_aload_n (pc := 78) (i := 0) C dX0_longest_78 rfl rfl ?_
        refine r_getP (pc := 79) C fd_X0_94 rfl dX0_longest_79 h (fun p13 h => ?_)
        refine r_iload_n (pc := 82) (i := 2) C dX0_longest_82 rfl rfl ?_
        refine r_iload_n (pc := 83) (i := 3) C dX0_longest_83 rfl rfl ?_
        refine r_iast (pc := 84) C dX0_longest_84 h (fun σ14 h => ?_)
        refine r_aload_n (pc := 85) (i := 0) C dX0_longest_85 rfl rfl ?_
        refine r_iload_n (pc := 86) (i := 3) C dX0_longest_86 rfl rfl ?_
        refine r_iload_n (pc := 87) (i := 2) C dX0_longest_87 rfl rfl ?_
        refine r_iconst (pc := 88) (v := 1) C dX0_longest_88 (by decide) ?_
        refine r_iadd (pc := 89) C dX0_longest_89 ?_
        refine r_callVV (pc := 90) (As := [.int z3, .int (x2 + 1)]) (st := []) C cs_X0_242_X0_longest h (fun _ e => (hrec _ _ _ _ _ e).1) (fun _ e => (hrec _ _ _ _ _ e).2) (by omega) (Nat.le_of_ble_eq_true rfl) dX0_longest_90 (fun σ15 h => ?_)
        refine r_aload_n (pc := 93) (i := 0) C dX0_longest_93 rfl rfl ?_
        refine r_getP (pc := 94) C fd_X0_90 rfl dX0_longest_94 h (fun p16 h => ?_)
        refine r_getP (pc := 97) C fd_X0_134 rfl dX0_longest_97 h (fun p17 h => ?_)
        refine r_iload_n (pc := 100) (i := 1) C dX0_longest_100 rfl rfl ?_
        refine r_aald (pc := 101) 0 (by decide) C dX0_longest_101 h (fun p18 h => ?_)
        refine r_iload_n (pc := 102) (i := 3) C dX0_longest_102 rfl rfl ?_
        refine r_dup2 (pc := 103) C dX0_longest_103 ?_
        refine r_iald (pc := 104) C dX0_longest_104 h (fun v19 h => ?_)
        refine r_iconst (pc := 105) (v := 1) C dX0_longest_105 (by decide) ?_
        refine r_iadd (pc := 106) C dX0_longest_106 ?_
        refine r_iast (pc := 107) C dX0_longest_107 h (fun σ20 h => ?_)
        refine r_iinc (pc := 108) (i := 3) (v := (z3 + 1)) C dX0_longest_108 rfl rfl (by decide) ?_
        refine r_goto (pc := 111) (tgt := 40) C dX0_longest_111 (by decide) ?_
        refine r_pick (lv' := [(0, rv B a0), (1, .int x1), (2, .int x2), (3, .int (z3 + 1))]) [0, 1, 2, 3] rfl ?_
        exact ih _ _ h
      · refine r_goto (pc := 60) (tgt := 108) C dX0_longest_60 (by decide) ?_
        refine r_iinc (pc := 108) (i := 3) (v := (z3 + 1)) C dX0_longest_108 rfl rfl (by decide) ?_
        refine r_goto (pc := 111) (tgt := 40) C dX0_longest_111 (by decide) ?_
        refine r_pick (lv' := [(0, rv B a0), (1, .int x1), (2, .int x2), (3, .int (z3 + 1))]) [0, 1, 2, 3] rfl ?_
        exact ih _ _ h
theorem wl_X0_longest_15 {B : Nat} {G : XG} {d : Nat} {σf : MM} {rec : MM → Nat → Int32 → Int32 → Option (MM)} {dr : Nat} (hrec : ∀ (σ : MM) (b0 : Nat) (c1 : Int32) (c2 : Int32) (σ' : MM), rec σ b0 c1 c2 = some σ' → xMA B yX0_longest cX0_longest 4 none dr 0 0 [rv B b0, .int c1, .int c2] σ none σ' ∧ mT σ b0 = (0, 22)) (hd : dr + 1 ≤ d) (hd2 : 0 ≤ d) (C : xC B G yX0_longest cX0_longest 4 none d 0 0) (E : xEnd B G none σf 0 0) {K : MM → Option (MM)} {F : Nat} {a0 : Nat} {x1 : Int32} {x2 : Int32} (hK : ∀ (σ : MM), K σ = some σf → xV B G 0 0 σ 38 [(0, rv B a0), (1, .int x1), (2, .int x2)] []) : ∀ (f : Nat) (z3 : Int32) (σ : MM), l_X0_longest_15 rec K F a0 x1 x2 f z3 σ = some σf → xV B G 0 0 σ 15 [(0, rv B a0), (1, .int x1), (2, .int x2), (3, .int z3)] [] := by
  intro f
  induction f with
  | zero =>
    intro z3 σ h
    have h : none = some σf := h
    cases h
  | succ f ih =>
    intro z3 σ h
    rw [l_X0_longest_15.eq_2] at h
    refine r_iload_n (pc := 15) (i := 3) C dX0_longest_15 rfl rfl ?_
    refine r_iload_n (pc := 16) (i := 2) C dX0_longest_16 rfl rfl ?_
    refine r_icmpge (pc := 17) (tgt := 38) C dX0_longest_17 (by decide) h (fun h => ?_) (fun h => ?_)
    · refine r_pick (lv' := [(0, rv B a0), (1, .int x1), (2, .int x2)]) [0, 1, 2] rfl ?_
      exact hK _ h
    · refine r_aload_n (pc := 20) (i := 0) C dX0_longest_20 rfl rfl ?_
      refine r_getP (pc := 21) C fd_X0_97 rfl dX0_longest_21 h (fun p23 h => ?_)
      refine r_iload_n (pc := 24) (i := 3) C dX0_longest_24 rfl rfl ?_
      refine r_aload_n (pc := 25) (i := 0) C dX0_longest_25 rfl rfl ?_
      refine r_getP (pc := 26) C fd_X0_94 rfl dX0_longest_26 h (fun p24 h => ?_)
      refine r_iload_n (pc := 29) (i := 3) C dX0_longest_29 rfl rfl ?_
      refine r_iald (pc := 30) C dX0_longest_30 h (fun v25 h => ?_)
      refine r_iast (pc := 31) C dX0_longest_31 h (fun σ26 h => ?_)
      refine r_iinc (pc := 32) (i := 3) (v := (z3 + 1)) C dX0_longest_32 rfl rfl (by decide) ?_
      refine r_goto (pc := 35) (tgt := 15) C dX0_longest_35 (by decide) ?_
      refine r_pick (lv' := [(0, rv B a0), (1, .int x1), (2, .int x2), (3, .int (z3 + 1))]) [0, 1, 2, 3] rfl ?_
      exact ih _ _ h
theorem ws_X0_longest {B F : Nat} {d : Nat} {σ : MM} {a0 : Nat} {x1 : Int32} {x2 : Int32} {σf : MM} {rec : MM → Nat → Int32 → Int32 → Option (MM)} {dr : Nat} (hrec : ∀ (σ : MM) (b0 : Nat) (c1 : Int32) (c2 : Int32) (σ' : MM), rec σ b0 c1 c2 = some σ' → xMA B yX0_longest cX0_longest 4 none dr 0 0 [rv B b0, .int c1, .int c2] σ none σ' ∧ mT σ b0 = (0, 22)) (hd : dr + 1 ≤ d) (hd2 : 0 ≤ d) (h : s_X0_longest F rec σ a0 x1 x2 = some σf) : xMA B yX0_longest cX0_longest 4 none d 0 0 [rv B a0, .int x1, .int x2] σ none σf := by
  refine xMA.of (by decide +kernel) (Nat.le_of_ble_eq_true rfl) (cat_rv (cat_int (cat_int cat_nil))) (fun G C E => ?_)
  unfold s_X0_longest at h
  obtain ⟨-, h⟩ := r_ck h
  refine r_iload_n (pc := 0) (i := 2) C dX0_longest_0 rfl rfl ?_
  refine r_aload_n (pc := 1) (i := 0) C dX0_longest_1 rfl rfl ?_
  refine r_getI (pc := 2) C fd_X0_239 rfl dX0_longest_2 h (fun v1 h => ?_)
  refine r_jn (fun k9 => ∀  (σ2 : MM), k9 σ2 = some σf → xV B G 0 0 σ2 38 [(0, rv B a0), (1, .int x1), (2, .int x2)] []) h (fun  σ2 h => ?_) (fun k3 hk3 h => ?_)
  · refine r_iconst (pc := 38) (v := 0) C dX0_longest_38 (by decide) ?_
    refine r_istore_n (pc := 39) (i := 3) C dX0_longest_39 rfl (by decide) ?_
    refine r_pick (lv' := [(0, rv B a0), (1, .int x1), (2, .int x2), (3, .int 0)]) [0, 1, 2, 3] rfl ?_
    refine wl_X0_longest_40 hrec hd hd2 C E (fun  σ21 h => ?_) _ _ _ h
    exact r_vret (pc := 114) C rfl dX0_longest_114 h E
  · refine r_icmple (pc := 5) (tgt := 38) C dX0_longest_5 (by decide) h (fun h => ?_) (fun h => ?_)
    · refine r_pick (lv' := [(0, rv B a0), (1, .int x1), (2, .int x2)]) [0, 1, 2] rfl ?_
      exact hk3 _ h
    · refine r_aload_n (pc := 8) (i := 0) C dX0_longest_8 rfl rfl ?_
      refine r_iload_n (pc := 9) (i := 2) C dX0_longest_9 rfl rfl ?_
      refine r_putI (pc := 10) C fd_X0_239 ft_X0_15 dX0_longest_10 h (fun σ22 h => ?_)
      refine r_iconst (pc := 13) (v := 0) C dX0_longest_13 (by decide) ?_
      refine r_istore_n (pc := 14) (i := 3) C dX0_longest_14 rfl (by decide) ?_
      refine r_pick (lv' := [(0, rv B a0), (1, .int x1), (2, .int x2), (3, .int 0)]) [0, 1, 2, 3] rfl ?_
      refine wl_X0_longest_15 hrec hd hd2 C E (fun  σ27 h => ?_) _ _ _ h
      refine r_pick (lv' := [(0, rv B a0), (1, .int x1), (2, .int x2)]) [0, 1, 2] rfl ?_
      exact hk3 _ h
theorem ts_X0_longest {F : Nat} {rec : MM → Nat → Int32 → Int32 → Option (MM)} {σ : MM} {a0 : Nat} {x1 : Int32} {x2 : Int32} {r : MM} (h : s_X0_longest F rec σ a0 x1 x2 = some r) : mT σ a0 = (0, 22) := by
  unfold s_X0_longest at h
  exact (r_ck h).1
def r_X0_longest (F : Nat) : Nat → MM → Nat → Int32 → Int32 → Option (MM)
  | 0 => fun _ _ _ _ => none
  | f + 1 => s_X0_longest F (r_X0_longest F f)
theorem wr_X0_longest {B F : Nat} : ∀ (f d : Nat), 1 * f + 0 ≤ d → ∀ (σ : MM) (a0 : Nat) (x1 : Int32) (x2 : Int32) (σ' : MM), r_X0_longest F f σ a0 x1 x2 = some σ' → xMA B yX0_longest cX0_longest 4 none d 0 0 [rv B a0, .int x1, .int x2] σ none σ' ∧ mT σ a0 = (0, 22) := by
  intro f
  induction f with
  | zero =>
    intro d hd σ a0 x1 x2 σ' h
    have h : none = some σ' := h
    cases h
  | succ f ih =>
    intro d hd σ a0 x1 x2 σ' h
    have h : s_X0_longest F (r_X0_longest F f) σ a0 x1 x2 = some σ' := h
    exact ⟨ws_X0_longest (dr := 1 * f + 0) (ih _ (Nat.le_refl _)) (by omega) (by omega) h, ts_X0_longest h⟩
def g_X0_longest (F : Nat) (σ : MM) (a0 : Nat) (x1 : Int32) (x2 : Int32) : Option (MM) := r_X0_longest F 64 σ a0 x1 x2
theorem w_X0_longest {B F d : Nat} {σ : MM} {a0 : Nat} {x1 : Int32} {x2 : Int32} {σf : MM} (hd : 64 ≤ d) (h : g_X0_longest F σ a0 x1 x2 = some σf) : xMA B yX0_longest cX0_longest 4 none d 0 0 [rv B a0, .int x1, .int x2] σ none σf := (wr_X0_longest 64 d hd _ _ _ _ _ h).1
theorem t_X0_longest {F : Nat} {σ : MM} {a0 : Nat} {x1 : Int32} {x2 : Int32} {r : MM} (h : g_X0_longest F σ a0 x1 x2 = some r) : mT σ a0 = (0, 22) := ts_X0_longest (rec := r_X0_longest F 63) h
def g_X0_most (F : Nat) (σ : MM) (a0 : Nat) (x1 : Int32) : Option (Int32 × MM) := if mT σ a0 = (0, 22) then (jn (fun (σ1 : MM) => (gP σ1 a0 0 22 4).bind fun p3 => (gI σ1 p3 2 16 3).bind fun v4 => if v4 = (-1) then (some ((-2), σ1)) else ((gP σ1 a0 0 22 4).bind fun p5 => (gP σ1 p5 2 16 0).bind fun p6 => bq (g_X4_all F σ1 p6) fun v8 σ7 => if 12 < v8 then (some ((-3), σ7)) else ((gP σ7 a0 0 22 12).bind fun p9 => (gP σ7 a0 0 22 4).bind fun p10 => (gP σ7 p10 2 16 0).bind fun p11 => bq (g_X4_takes F σ7 p9 p11) fun p13 σ12 => (pI σ12 a0 0 22 15 0).bind fun σ14 => (gP σ14 a0 0 22 4).bind fun p15 => (gI σ14 p15 2 16 3).bind fun v16 => (g_X0_longest F σ14 a0 v16 0).bind fun σ17 => if x1 = 100 then ((gI σ17 a0 0 22 15).bind fun v21 => some (v21, σ17)) else ((gI σ17 a0 0 22 15).bind fun v18 => if x1 < v18 then ((gP σ17 a0 0 22 14).bind fun p19 => (aI σ17 p19 20 x1).bind fun v20 => some (v20, σ17)) else (some ((-4), σ17)))))) (fun k2 => if x1 = 100 then (k2 σ) else (bq (g_X0_in F σ x1 12) fun v23 σ22 => if v23 = 0 then (some ((-1), σ22)) else (k2 σ22)))) else none
theorem w_X0_most {B F : Nat} {d : Nat} {σ : MM} {a0 : Nat} {x1 : Int32} {rf : Int32} {σf : MM} (hd : 65 ≤ d) (h : g_X0_most F σ a0 x1 = some (rf, σf)) : xMA B yX0_most cX0_most 2 (some .int) d 0 0 [rv B a0, .int x1] σ (some (.int rf)) σf := by
  refine xMA.of (by decide +kernel) (Nat.le_of_ble_eq_true rfl) (cat_rv (cat_int cat_nil)) (fun G C E => ?_)
  unfold g_X0_most at h
  obtain ⟨-, h⟩ := r_ck h
  refine r_iload_n (pc := 0) (i := 1) C dX0_most_0 rfl rfl ?_
  refine r_bipush (pc := 1) (v := 100) C dX0_most_1 (by decide) ?_
  refine r_jn (fun k9 => ∀  (σ1 : MM), k9 σ1 = some (rf, σf) → xV B G 0 0 σ1 17 [(0, rv B a0), (1, .int x1)] []) h (fun  σ1 h => ?_) (fun k2 hk2 h => ?_)
  · refine r_aload_n (pc := 17) (i := 0) C dX0_most_17 rfl rfl ?_
    refine r_getP (pc := 18) C fd_X0_66 rfl dX0_most_18 h (fun p3 h => ?_)
    refine r_getI (pc := 21) C fd_X0_137 rfl dX0_most_21 h (fun v4 h => ?_)
    refine r_iconst (pc := 24) (v := (-1)) C dX0_most_24 (by decide) ?_
    refine r_icmpne (pc := 25) (tgt := 31) C dX0_most_25 (by decide) h (fun h => ?_) (fun h => ?_)
    · refine r_aload_n (pc := 31) (i := 0) C dX0_most_31 rfl rfl ?_
      refine r_getP (pc := 32) C fd_X0_66 rfl dX0_most_32 h (fun p5 h => ?_)
      refine r_getP (pc := 35) C fd_X0_131 rfl dX0_most_35 h (fun p6 h => ?_)
      refine r_callVI (pc := 38) (As := []) (st := []) C cs_X0_199_X4_all h (fun _ _ e => w_X4_all (Nat.le_refl 1) e) (fun _ _ e => t_X4_all e) (Nat.le_trans (Nat.le_of_ble_eq_true rfl) hd) (Nat.le_of_ble_eq_true rfl) dX0_most_38 (fun v8 σ7 h => ?_)
      refine r_bipush (pc := 41) (v := 12) C dX0_most_41 (by decide) ?_
      refine r_icmple (pc := 43) (tgt := 49) C dX0_most_43 (by decide) h (fun h => ?_) (fun h => ?_)
      · refine r_aload_n (pc := 49) (i := 0) C dX0_most_49 rfl rfl ?_
        refine r_getP (pc := 50) C fd_X0_90 rfl dX0_most_50 h (fun p9 h => ?_)
        refine r_aload_n (pc := 53) (i := 0) C dX0_most_53 rfl rfl ?_
        refine r_getP (pc := 54) C fd_X0_66 rfl dX0_most_54 h (fun p10 h => ?_)
        refine r_getP (pc := 57) C fd_X0_131 rfl dX0_most_57 h (fun p11 h => ?_)
        refine r_callVP (pc := 60) (As := [rv B p11]) (st := []) C cs_X0_167_X4_takes h (fun _ _ e => w_X4_takes (Nat.le_refl 0) e) (fun _ _ e => t_X4_takes e) (Nat.le_trans (Nat.le_of_ble_eq_true rfl) hd) (Nat.le_of_ble_eq_true rfl) dX0_most_60 (fun p13 σ12 h => ?_)
        refine r_pop (pc := 63) C dX0_most_63 ?_
        refine r_aload_n (pc := 64) (i := 0) C dX0_most_64 rfl rfl ?_
        refine r_iconst (pc := 65) (v := 0) C dX0_most_65 (by decide) ?_
        refine r_putI (pc := 66) C fd_X0_239 ft_X0_15 dX0_most_66 h (fun σ14 h => ?_)
        refine r_aload_n (pc := 69) (i := 0) C dX0_most_69 rfl rfl ?_
        refine r_aload_n (pc := 70) (i := 0) C dX0_most_70 rfl rfl ?_
        refine r_getP (pc := 71) C fd_X0_66 rfl dX0_most_71 h (fun p15 h => ?_)
        refine r_getI (pc := 74) C fd_X0_137 rfl dX0_most_74 h (fun v16 h => ?_)
        refine r_iconst (pc := 77) (v := 0) C dX0_most_77 (by decide) ?_
        refine r_callVV (pc := 78) (As := [.int v16, .int 0]) (st := []) C cs_X0_242_X0_longest h (fun _ e => w_X0_longest (Nat.le_refl 64) e) (fun _ e => t_X0_longest e) (Nat.le_trans (Nat.le_of_ble_eq_true rfl) hd) (Nat.le_of_ble_eq_true rfl) dX0_most_78 (fun σ17 h => ?_)
        refine r_iload_n (pc := 81) (i := 1) C dX0_most_81 rfl rfl ?_
        refine r_bipush (pc := 82) (v := 100) C dX0_most_82 (by decide) ?_
        refine r_icmpne (pc := 84) (tgt := 94) C dX0_most_84 (by decide) h (fun h => ?_) (fun h => ?_)
        · refine r_iload_n (pc := 94) (i := 1) C dX0_most_94 rfl rfl ?_
          refine r_aload_n (pc := 95) (i := 0) C dX0_most_95 rfl rfl ?_
          refine r_getI (pc := 96) C fd_X0_239 rfl dX0_most_96 h (fun v18 h => ?_)
          refine r_icmpge (pc := 99) (tgt := 111) C dX0_most_99 (by decide) h (fun h => ?_) (fun h => ?_)
          · refine r_bipush (pc := 111) (v := (-4)) C dX0_most_111 (by decide) ?_
            exact r_iret (pc := 113) C rfl dX0_most_113 h E
          · refine r_aload_n (pc := 102) (i := 0) C dX0_most_102 rfl rfl ?_
            refine r_getP (pc := 103) C fd_X0_97 rfl dX0_most_103 h (fun p19 h => ?_)
            refine r_iload_n (pc := 106) (i := 1) C dX0_most_106 rfl rfl ?_
            refine r_iald (pc := 107) C dX0_most_107 h (fun v20 h => ?_)
            refine r_goto (pc := 108) (tgt := 113) C dX0_most_108 (by decide) ?_
            exact r_iret (pc := 113) C rfl dX0_most_113 h E
        · refine r_aload_n (pc := 87) (i := 0) C dX0_most_87 rfl rfl ?_
          refine r_getI (pc := 88) C fd_X0_239 rfl dX0_most_88 h (fun v21 h => ?_)
          refine r_goto (pc := 91) (tgt := 113) C dX0_most_91 (by decide) ?_
          exact r_iret (pc := 113) C rfl dX0_most_113 h E
      · refine r_bipush (pc := 46) (v := (-3)) C dX0_most_46 (by decide) ?_
        exact r_iret (pc := 48) C rfl dX0_most_48 h E
    · refine r_bipush (pc := 28) (v := (-2)) C dX0_most_28 (by decide) ?_
      exact r_iret (pc := 30) C rfl dX0_most_30 h E
  · refine r_icmpeq (pc := 3) (tgt := 17) C dX0_most_3 (by decide) h (fun h => ?_) (fun h => ?_)
    · refine r_pick (lv' := [(0, rv B a0), (1, .int x1)]) [0, 1] rfl ?_
      exact hk2 _ h
    · refine r_iload_n (pc := 6) (i := 1) C dX0_most_6 rfl rfl ?_
      refine r_bipush (pc := 7) (v := 12) C dX0_most_7 (by decide) ?_
      refine r_callSI (pc := 9) (As := [.int x1, .int 12]) (st := []) C cs_X0_15_X0_in h (fun _ _ e => w_X0_in (Nat.le_refl 0) e) (Nat.le_trans (Nat.le_of_ble_eq_true rfl) hd) (Nat.le_of_ble_eq_true rfl) dX0_most_9 (fun v23 σ22 h => ?_)
      refine r_ifne (pc := 12) (tgt := 17) C dX0_most_12 (by decide) h (fun h => ?_) (fun h => ?_)
      · refine r_pick (lv' := [(0, rv B a0), (1, .int x1)]) [0, 1] rfl ?_
        exact hk2 _ h
      · refine r_iconst (pc := 15) (v := (-1)) C dX0_most_15 (by decide) ?_
        exact r_iret (pc := 16) C rfl dX0_most_16 h E
theorem t_X0_most {F : Nat} {σ : MM} {a0 : Nat} {x1 : Int32} {r : Int32 × MM} (h : g_X0_most F σ a0 x1 = some r) : mT σ a0 = (0, 22) := by
  unfold g_X0_most at h
  exact (r_ck h).1
theorem fd_X0_102 : xFg RX0 102 0 22 16 := ⟨_, rfl, rfl, by decide, by decide, in_X0, Or.inl q331⟩
theorem ft_X0_16 : xFt 0 16 (.array (.array .int)) true := ⟨_, rfl, by decide +kernel, rfl, rfl⟩
def l_X0_laysWays_10 (K : MM → Option (MM)) (F : Nat) (a0 : Nat) (x1 : Int32) (x2 : Int32) : Nat → Int32 → MM → Option (MM)
  | 0, _, _ => none
  | f + 1, z3, σ => if z3 < 10 then ((gP σ a0 0 22 16).bind fun p1 => (aP σ p1 22 x2).bind fun p2 => (gP σ a0 0 22 4).bind fun p3 => (gP σ p3 2 16 0).bind fun p4 => (gP σ p4 3 1 0).bind fun p5 => (aP σ p5 22 x2).bind fun p6 => (aI σ p6 20 z3).bind fun v7 => if v7 = 0 then ((sI σ p2 z3 268435456).bind fun σ12 => l_X0_laysWays_10 K F a0 x1 x2 f ((z3 + 1)) σ12) else (if x1 = 0 then ((sI σ p2 z3 1).bind fun σ8 => l_X0_laysWays_10 K F a0 x1 x2 f ((z3 + 1)) σ8) else (bq (g_X0_way F σ a0 x2 z3) fun v10 σ9 => (sI σ9 p2 z3 v10).bind fun σ11 => l_X0_laysWays_10 K F a0 x1 x2 f ((z3 + 1)) σ11))) else (K σ)
def l_X0_laysWays_2 (K : MM → Option (MM)) (F : Nat) (a0 : Nat) (x1 : Int32) : Nat → Int32 → MM → Option (MM)
  | 0, _, _ => none
  | f + 1, z2, σ => if z2 < 10 then (l_X0_laysWays_10 (fun (σ13 : MM) => l_X0_laysWays_2 K F a0 x1 f ((z2 + 1)) σ13) F a0 x1 z2 F 0 σ) else (K σ)
def l_X0_laysWays_91 (K : MM → Option (MM)) (F : Nat) (a0 : Nat) (x2 : Int32) (x3 : Int32) : Nat → Int32 → MM → Option (MM)
  | 0, _, _ => none
  | f + 1, z4, σ => if z4 < 10 then ((gP σ a0 0 22 16).bind fun p15 => (aP σ p15 22 x3).bind fun p16 => (gP σ a0 0 22 16).bind fun p17 => (aP σ p17 22 x3).bind fun p18 => (aI σ p18 20 z4).bind fun v19 => (gP σ a0 0 22 16).bind fun p20 => (aP σ p20 22 x3).bind fun p21 => (aI σ p21 20 x2).bind fun v22 => (gP σ a0 0 22 16).bind fun p23 => (aP σ p23 22 x2).bind fun p24 => (aI σ p24 20 z4).bind fun v25 => (sI σ p16 z4 ((jmin v19 ((v22 + v25))))).bind fun σ28 => l_X0_laysWays_91 K F a0 x2 x3 f ((z4 + 1)) σ28) else (K σ)
def l_X0_laysWays_82 (K : MM → Option (MM)) (F : Nat) (a0 : Nat) (x2 : Int32) : Nat → Int32 → MM → Option (MM)
  | 0, _, _ => none
  | f + 1, z3, σ => if z3 < 10 then (l_X0_laysWays_91 (fun (σ29 : MM) => l_X0_laysWays_82 K F a0 x2 f ((z3 + 1)) σ29) F a0 x2 z3 F 0 σ) else (K σ)
def l_X0_laysWays_74 (K : MM → Option (MM)) (F : Nat) (a0 : Nat) : Nat → Int32 → MM → Option (MM)
  | 0, _, _ => none
  | f + 1, z2, σ => if z2 < 10 then (l_X0_laysWays_82 (fun (σ30 : MM) => l_X0_laysWays_74 K F a0 f ((z2 + 1)) σ30) F a0 z2 F 0 σ) else (K σ)
def g_X0_laysWays (F : Nat) (σ : MM) (a0 : Nat) (x1 : Int32) : Option (MM) := if mT σ a0 = (0, 22) then (l_X0_laysWays_2 (fun (σ14 : MM) => l_X0_laysWays_74 (fun (σ31 : MM) => some σ31) F a0 F 0 σ14) F a0 x1 F 0 σ) else none
theorem wl_X0_laysWays_10 {B : Nat} {G : XG} {d : Nat} {σf : MM} (hd : 2 ≤ d) (C : xC B G yX0_laysWays cX0_laysWays 5 none d 0 0) (E : xEnd B G none σf 0 0) {K : MM → Option (MM)} {F : Nat} {a0 : Nat} {x1 : Int32} {x2 : Int32} (hK : ∀ (σ : MM), K σ = some σf → xV B G 0 0 σ 66 [(0, rv B a0), (1, .int x1), (2, .int x2)] []) : ∀ (f : Nat) (z3 : Int32) (σ : MM), l_X0_laysWays_10 K F a0 x1 x2 f z3 σ = some σf → xV B G 0 0 σ 10 [(0, rv B a0), (1, .int x1), (2, .int x2), (3, .int z3)] [] := by
  intro f
  induction f with
  | zero =>
    intro z3 σ h
    have h : none = some σf := h
    cases h
  | succ f ih =>
    intro z3 σ h
    rw [l_X0_laysWays_10.eq_2] at h
    refine r_iload_n (pc := 10) (i := 3) C dX0_laysWays_10 rfl rfl ?_
    refine r_bipush (pc := 11) (v := 10) C dX0_laysWays_11 (by decide) ?_
    refine r_icmpge (pc := 13) (tgt := 66) C dX0_laysWays_13 (by decide) h (fun h => ?_) (fun h => ?_)
    · refine r_pick (lv' := [(0, rv B a0), (1, .int x1), (2, .int x2)]) [0, 1, 2] rfl ?_
      exact hK _ h
    · refine r_aload_n (pc := 16) (i := 0) C dX0_laysWays_16 rfl rfl ?_
      refine r_getP (pc := 17) C fd_X0_102 rfl dX0_laysWays_17 h (fun p1 h => ?_)
      refine r_iload_n (pc := 20) (i := 2) C dX0_laysWays_20 rfl rfl ?_
      refine r_aald (pc := 21) 0 (by decide) C dX0_laysWays_21 h (fun p2 h => ?_)
      refine r_iload_n (pc := 22) (i := 3) C dX0_laysWays_22 rfl rfl ?_
      refine r_aload_n (pc := 23) (i := 0) C dX0_laysWays_23 rfl rfl ?_
      refine r_getP (pc := 24) C fd_X0_66 rfl dX0_laysWays_24 h (fun p3 h => ?_)
      refine r_getP (pc := 27) C fd_X0_131 rfl dX0_laysWays_27 h (fun p4 h => ?_)
      refine r_getP (pc := 30) C fd_X0_134 rfl dX0_laysWays_30 h (fun p5 h => ?_)
      refine r_iload_n (pc := 33) (i := 2) C dX0_laysWays_33 rfl rfl ?_
      refine r_aald (pc := 34) 0 (by decide) C dX0_laysWays_34 h (fun p6 h => ?_)
      refine r_iload_n (pc := 35) (i := 3) C dX0_laysWays_35 rfl rfl ?_
      refine r_iald (pc := 36) C dX0_laysWays_36 h (fun v7 h => ?_)
      refine r_ifne (pc := 37) (tgt := 45) C dX0_laysWays_37 (by decide) h (fun h => ?_) (fun h => ?_)
      · refine r_iload_n (pc := 45) (i := 1) C dX0_laysWays_45 rfl rfl ?_
        refine r_ifeq (pc := 46) (tgt := 58) C dX0_laysWays_46 (by decide) h (fun h => ?_) (fun h => ?_)
        · refine r_iconst (pc := 58) (v := 1) C dX0_laysWays_58 (by decide) ?_
          refine r_iast (pc := 59) C dX0_laysWays_59 h (fun σ8 h => ?_)
          refine r_iinc (pc := 60) (i := 3) (v := (z3 + 1)) C dX0_laysWays_60 rfl rfl (by decide) ?_
          refine r_goto (pc := 63) (tgt := 10) C dX0_laysWays_63 (by decide) ?_
          refine r_pick (lv' := [(0, rv B a0), (1, .int x1), (2, .int x2), (3, .int (z3 + 1))]) [0, 1, 2, 3] rfl ?_
          exact ih _ _ h
        · refine r_aload_n (pc := 49) (i := 0) C dX0_laysWays_49 rfl rfl ?_
          refine r_iload_n (pc := 50) (i := 2) C dX0_laysWays_50 rfl rfl ?_
          refine r_iload_n (pc := 51) (i := 3) C dX0_laysWays_51 rfl rfl ?_
          refine r_callVI (pc := 52) (As := [.int x2, .int z3]) (st := [.int z3, rv B p2]) C cs_X0_177_X0_way h (fun _ _ e => w_X0_way (Nat.le_refl 1) e) (fun _ _ e => t_X0_way e) (Nat.le_trans (Nat.le_of_ble_eq_true rfl) hd) (Nat.le_of_ble_eq_true rfl) dX0_laysWays_52 (fun v10 σ9 h => ?_)
          refine r_goto (pc := 55) (tgt := 59) C dX0_laysWays_55 (by decide) ?_
          refine r_iast (pc := 59) C dX0_laysWays_59 h (fun σ11 h => ?_)
          refine r_iinc (pc := 60) (i := 3) (v := (z3 + 1)) C dX0_laysWays_60 rfl rfl (by decide) ?_
          refine r_goto (pc := 63) (tgt := 10) C dX0_laysWays_63 (by decide) ?_
          refine r_pick (lv' := [(0, rv B a0), (1, .int x1), (2, .int x2), (3, .int (z3 + 1))]) [0, 1, 2, 3] rfl ?_
          exact ih _ _ h
      · refine r_ldc (pc := 40) C q1125 dX0_laysWays_40 ?_
        refine r_goto (pc := 42) (tgt := 59) C dX0_laysWays_42 (by decide) ?_
        refine r_iast (pc := 59) C dX0_laysWays_59 h (fun σ12 h => ?_)
        refine r_iinc (pc := 60) (i := 3) (v := (z3 + 1)) C dX0_laysWays_60 rfl rfl (by decide) ?_
        refine r_goto (pc := 63) (tgt := 10) C dX0_laysWays_63 (by decide) ?_
        refine r_pick (lv' := [(0, rv B a0), (1, .int x1), (2, .int x2), (3, .int (z3 + 1))]) [0, 1, 2, 3] rfl ?_
        exact ih _ _ h
theorem wl_X0_laysWays_2 {B : Nat} {G : XG} {d : Nat} {σf : MM} (hd : 2 ≤ d) (C : xC B G yX0_laysWays cX0_laysWays 5 none d 0 0) (E : xEnd B G none σf 0 0) {K : MM → Option (MM)} {F : Nat} {a0 : Nat} {x1 : Int32} (hK : ∀ (σ : MM), K σ = some σf → xV B G 0 0 σ 72 [(0, rv B a0)] []) : ∀ (f : Nat) (z2 : Int32) (σ : MM), l_X0_laysWays_2 K F a0 x1 f z2 σ = some σf → xV B G 0 0 σ 2 [(0, rv B a0), (1, .int x1), (2, .int z2)] [] := by
  intro f
  induction f with
  | zero =>
    intro z2 σ h
    have h : none = some σf := h
    cases h
  | succ f ih =>
    intro z2 σ h
    rw [l_X0_laysWays_2.eq_2] at h
    refine r_iload_n (pc := 2) (i := 2) C dX0_laysWays_2 rfl rfl ?_
    refine r_bipush (pc := 3) (v := 10) C dX0_laysWays_3 (by decide) ?_
    refine r_icmpge (pc := 5) (tgt := 72) C dX0_laysWays_5 (by decide) h (fun h => ?_) (fun h => ?_)
    · refine r_pick (lv' := [(0, rv B a0)]) [0] rfl ?_
      exact hK _ h
    · refine r_iconst (pc := 8) (v := 0) C dX0_laysWays_8 (by decide) ?_
      refine r_istore_n (pc := 9) (i := 3) C dX0_laysWays_9 rfl (by decide) ?_
      refine r_pick (lv' := [(0, rv B a0), (1, .int x1), (2, .int z2), (3, .int 0)]) [0, 1, 2, 3] rfl ?_
      refine wl_X0_laysWays_10 hd C E (fun  σ13 h => ?_) _ _ _ h
      refine r_iinc (pc := 66) (i := 2) (v := (z2 + 1)) C dX0_laysWays_66 rfl rfl (by decide) ?_
      refine r_goto (pc := 69) (tgt := 2) C dX0_laysWays_69 (by decide) ?_
      refine r_pick (lv' := [(0, rv B a0), (1, .int x1), (2, .int (z2 + 1))]) [0, 1, 2] rfl ?_
      exact ih _ _ h
theorem wl_X0_laysWays_91 {B : Nat} {G : XG} {d : Nat} {σf : MM} (hd : 2 ≤ d) (C : xC B G yX0_laysWays cX0_laysWays 5 none d 0 0) (E : xEnd B G none σf 0 0) {K : MM → Option (MM)} {F : Nat} {a0 : Nat} {x2 : Int32} {x3 : Int32} (hK : ∀ (σ : MM), K σ = some σf → xV B G 0 0 σ 143 [(0, rv B a0), (2, .int x2), (3, .int x3)] []) : ∀ (f : Nat) (z4 : Int32) (σ : MM), l_X0_laysWays_91 K F a0 x2 x3 f z4 σ = some σf → xV B G 0 0 σ 91 [(0, rv B a0), (2, .int x2), (3, .int x3), (4, .int z4)] [] := by
  intro f
  induction f with
  | zero =>
    intro z4 σ h
    have h : none = some σf := h
    cases h
  | succ f ih =>
    intro z4 σ h
    rw [l_X0_laysWays_91.eq_2] at h
    refine r_iload (pc := 91) (i := 4) C dX0_laysWays_91 rfl ?_
    refine r_bipush (pc := 93) (v := 10) C dX0_laysWays_93 (by decide) ?_
    refine r_icmpge (pc := 95) (tgt := 143) C dX0_laysWays_95 (by decide) h (fun h => ?_) (fun h => ?_)
    · refine r_pick (lv' := [(0, rv B a0), (2, .int x2), (3, .int x3)]) [0, 2, 3] rfl ?_
      exact hK _ h
    · refine r_aload_n (pc := 98) (i := 0) C dX0_laysWays_98 rfl rfl ?_
      refine r_getP (pc := 99) C fd_X0_102 rfl dX0_laysWays_99 h (fun p15 h => ?_)
      refine r_iload_n (pc := 102) (i := 3) C dX0_laysWays_102 rfl rfl ?_
      refine r_aald (pc := 103) 0 (by decide) C dX0_laysWays_103 h (fun p16 h => ?_)
      refine r_iload (pc := 104) (i := 4) C dX0_laysWays_104 rfl ?_
      refine r_aload_n (pc := 106) (i := 0) C dX0_laysWays_106 rfl rfl ?_
      refine r_getP (pc := 107) C fd_X0_102 rfl dX0_laysWays_107 h (fun p17 h => ?_)
      refine r_iload_n (pc := 110) (i := 3) C dX0_laysWays_110 rfl rfl ?_
      refine r_aald (pc := 111) 0 (by decide) C dX0_laysWays_111 h (fun p18 h => ?_)
      refine r_iload (pc := 112) (i := 4) C dX0_laysWays_112 rfl ?_
      refine r_iald (pc := 114) C dX0_laysWays_114 h (fun v19 h => ?_)
      refine r_aload_n (pc := 115) (i := 0) C dX0_laysWays_115 rfl rfl ?_
      refine r_getP (pc := 116) C fd_X0_102 rfl dX0_laysWays_116 h (fun p20 h => ?_)
      refine r_iload_n (pc := 119) (i := 3) C dX0_laysWays_119 rfl rfl ?_
      refine r_aald (pc := 120) 0 (by decide) C dX0_laysWays_120 h (fun p21 h => ?_)
      refine r_iload_n (pc := 121) (i := 2) C dX0_laysWays_121 rfl rfl ?_
      refine r_iald (pc := 122) C dX0_laysWays_122 h (fun v22 h => ?_)
      refine r_aload_n (pc := 123) (i := 0) C dX0_laysWays_123 rfl rfl ?_
      refine r_getP (pc := 124) C fd_X0_102 rfl dX0_laysWays_124 h (fun p23 h => ?_)
      refine r_iload_n (pc := 127) (i := 2) C dX0_laysWays_127 rfl rfl ?_
      refine r_aald (pc := 128) 0 (by decide) C dX0_laysWays_128 h (fun p24 h => ?_)
      refine r_iload (pc := 129) (i := 4) C dX0_laysWays_129 rfl ?_
      refine r_iald (pc := 131) C dX0_laysWays_131 h (fun v25 h => ?_)
      refine r_iadd (pc := 132) C dX0_laysWays_132 ?_
      refine r_mmin (pc := 133) C q1008 q499 q126 q500 (Nat.le_trans (Nat.le_of_ble_eq_true rfl) hd) (Nat.le_of_ble_eq_true rfl) (Nat.le_of_ble_eq_true rfl) (Nat.le_of_ble_eq_true rfl) dX0_laysWays_133 ?_
      refine r_iast (pc := 136) C dX0_laysWays_136 h (fun σ28 h => ?_)
      refine r_iinc (pc := 137) (i := 4) (v := (z4 + 1)) C dX0_laysWays_137 rfl rfl (by decide) ?_
      refine r_goto (pc := 140) (tgt := 91) C dX0_laysWays_140 (by decide) ?_
      refine r_pick (lv' := [(0, rv B a0), (2, .int x2), (3, .int x3), (4, .int (z4 + 1))]) [0, 2, 3, 4] rfl ?_
      exact ih _ _ h
theorem wl_X0_laysWays_82 {B : Nat} {G : XG} {d : Nat} {σf : MM} (hd : 2 ≤ d) (C : xC B G yX0_laysWays cX0_laysWays 5 none d 0 0) (E : xEnd B G none σf 0 0) {K : MM → Option (MM)} {F : Nat} {a0 : Nat} {x2 : Int32} (hK : ∀ (σ : MM), K σ = some σf → xV B G 0 0 σ 149 [(0, rv B a0), (2, .int x2)] []) : ∀ (f : Nat) (z3 : Int32) (σ : MM), l_X0_laysWays_82 K F a0 x2 f z3 σ = some σf → xV B G 0 0 σ 82 [(0, rv B a0), (2, .int x2), (3, .int z3)] [] := by
  intro f
  induction f with
  | zero =>
    intro z3 σ h
    have h : none = some σf := h
    cases h
  | succ f ih =>
    intro z3 σ h
    rw [l_X0_laysWays_82.eq_2] at h
    refine r_iload_n (pc := 82) (i := 3) C dX0_laysWays_82 rfl rfl ?_
    refine r_bipush (pc := 83) (v := 10) C dX0_laysWays_83 (by decide) ?_
    refine r_icmpge (pc := 85) (tgt := 149) C dX0_laysWays_85 (by decide) h (fun h => ?_) (fun h => ?_)
    · refine r_pick (lv' := [(0, rv B a0), (2, .int x2)]) [0, 2] rfl ?_
      exact hK _ h
    · refine r_iconst (pc := 88) (v := 0) C dX0_laysWays_88 (by decide) ?_
      refine r_istore (pc := 89) (i := 4) C dX0_laysWays_89 (by decide) ?_
      refine r_pick (lv' := [(0, rv B a0), (2, .int x2), (3, .int z3), (4, .int 0)]) [0, 2, 3, 4] rfl ?_
      refine wl_X0_laysWays_91 hd C E (fun  σ29 h => ?_) _ _ _ h
      refine r_iinc (pc := 143) (i := 3) (v := (z3 + 1)) C dX0_laysWays_143 rfl rfl (by decide) ?_
      refine r_goto (pc := 146) (tgt := 82) C dX0_laysWays_146 (by decide) ?_
      refine r_pick (lv' := [(0, rv B a0), (2, .int x2), (3, .int (z3 + 1))]) [0, 2, 3] rfl ?_
      exact ih _ _ h
theorem wl_X0_laysWays_74 {B : Nat} {G : XG} {d : Nat} {σf : MM} (hd : 2 ≤ d) (C : xC B G yX0_laysWays cX0_laysWays 5 none d 0 0) (E : xEnd B G none σf 0 0) {K : MM → Option (MM)} {F : Nat} {a0 : Nat} (hK : ∀ (σ : MM), K σ = some σf → xV B G 0 0 σ 155 [] []) : ∀ (f : Nat) (z2 : Int32) (σ : MM), l_X0_laysWays_74 K F a0 f z2 σ = some σf → xV B G 0 0 σ 74 [(0, rv B a0), (2, .int z2)] [] := by
  intro f
  induction f with
  | zero =>
    intro z2 σ h
    have h : none = some σf := h
    cases h
  | succ f ih =>
    intro z2 σ h
    rw [l_X0_laysWays_74.eq_2] at h
    refine r_iload_n (pc := 74) (i := 2) C dX0_laysWays_74 rfl rfl ?_
    refine r_bipush (pc := 75) (v := 10) C dX0_laysWays_75 (by decide) ?_
    refine r_icmpge (pc := 77) (tgt := 155) C dX0_laysWays_77 (by decide) h (fun h => ?_) (fun h => ?_)
    · refine r_pick (lv' := []) [] rfl ?_
      exact hK _ h
    · refine r_iconst (pc := 80) (v := 0) C dX0_laysWays_80 (by decide) ?_
      refine r_istore_n (pc := 81) (i := 3) C dX0_laysWays_81 rfl (by decide) ?_
      refine r_pick (lv' := [(0, rv B a0), (2, .int z2), (3, .int 0)]) [0, 2, 3] rfl ?_
      refine wl_X0_laysWays_82 hd C E (fun  σ30 h => ?_) _ _ _ h
      refine r_iinc (pc := 149) (i := 2) (v := (z2 + 1)) C dX0_laysWays_149 rfl rfl (by decide) ?_
      refine r_goto (pc := 152) (tgt := 74) C dX0_laysWays_152 (by decide) ?_
      refine r_pick (lv' := [(0, rv B a0), (2, .int (z2 + 1))]) [0, 2] rfl ?_
      exact ih _ _ h
theorem w_X0_laysWays {B F : Nat} {d : Nat} {σ : MM} {a0 : Nat} {x1 : Int32} {σf : MM} (hd : 2 ≤ d) (h : g_X0_laysWays F σ a0 x1 = some σf) : xMA B yX0_laysWays cX0_laysWays 5 none d 0 0 [rv B a0, .int x1] σ none σf := by
  refine xMA.of (by decide +kernel) (Nat.le_of_ble_eq_true rfl) (cat_rv (cat_int cat_nil)) (fun G C E => ?_)
  unfold g_X0_laysWays at h
  obtain ⟨-, h⟩ := r_ck h
  refine r_iconst (pc := 0) (v := 0) C dX0_laysWays_0 (by decide) ?_
  refine r_istore_n (pc := 1) (i := 2) C dX0_laysWays_1 rfl (by decide) ?_
  refine r_pick (lv' := [(0, rv B a0), (1, .int x1), (2, .int 0)]) [0, 1, 2] rfl ?_
  refine wl_X0_laysWays_2 hd C E (fun  σ14 h => ?_) _ _ _ h
  refine r_iconst (pc := 72) (v := 0) C dX0_laysWays_72 (by decide) ?_
  refine r_istore_n (pc := 73) (i := 2) C dX0_laysWays_73 rfl (by decide) ?_
  refine r_pick (lv' := [(0, rv B a0), (2, .int 0)]) [0, 2] rfl ?_
  refine wl_X0_laysWays_74 hd C E (fun  σ31 h => ?_) _ _ _ h
  exact r_vret (pc := 155) C rfl dX0_laysWays_155 h E
theorem t_X0_laysWays {F : Nat} {σ : MM} {a0 : Nat} {x1 : Int32} {r : MM} (h : g_X0_laysWays F σ a0 x1 = some r) : mT σ a0 = (0, 22) := by
  unfold g_X0_laysWays at h
  exact (r_ck h).1
theorem yd_X0_laysWays : xYd yX0_laysWays 1 := ⟨by decide +kernel, by decide +kernel, by decide +kernel⟩
theorem cs_X0_247_X0_laysWays : xCV RX0 247 yX0_laysWays cX0_laysWays 5 none 0 22 1 := ⟨by decide, by decide, _, rfl, yd_X0_laysWays, Or.inl ⟨rfl, lw_V q1121 q1123 qs35 q116 q1124⟩⟩
def g_X0_back (F : Nat) (σ : MM) (a0 : Nat) (x1 : Int32) (x2 : Int32) : Option (Int32 × MM) := if mT σ a0 = (0, 22) then (bq (g_X0_isTold F σ a0 x1) fun v2 σ1 => if v2 = 0 then (some ((-1), σ1)) else (bq (g_X0_in F σ1 x2 2) fun v4 σ3 => if v4 = 0 then (some ((-1), σ3)) else (jn (fun (w6 : Int32) (σ5 : MM) => (g_X0_laysWays F σ5 a0 w6).bind fun σ8 => (gP σ8 a0 0 22 16).bind fun p9 => (aP σ8 p9 22 x1).bind fun p10 => (aI σ8 p10 20 x1).bind fun v11 => if v11 < 268435456 then ((gP σ8 a0 0 22 16).bind fun p12 => (aP σ8 p12 22 x1).bind fun p13 => (aI σ8 p13 20 x1).bind fun v14 => some (v14, σ8)) else (some ((-2), σ8))) (fun k7 => if x2 = 1 then (k7 1 σ3) else (k7 0 σ3))))) else none
theorem w_X0_back {B F : Nat} {d : Nat} {σ : MM} {a0 : Nat} {x1 : Int32} {x2 : Int32} {rf : Int32} {σf : MM} (hd : 3 ≤ d) (h : g_X0_back F σ a0 x1 x2 = some (rf, σf)) : xMA B yX0_back cX0_back 3 (some .int) d 0 0 [rv B a0, .int x1, .int x2] σ (some (.int rf)) σf := by
  refine xMA.of (by decide +kernel) (Nat.le_of_ble_eq_true rfl) (cat_rv (cat_int (cat_int cat_nil))) (fun G C E => ?_)
  unfold g_X0_back at h
  obtain ⟨-, h⟩ := r_ck h
  refine r_aload_n (pc := 0) (i := 0) C dX0_back_0 rfl rfl ?_
  refine r_iload_n (pc := 1) (i := 1) C dX0_back_1 rfl rfl ?_
  refine r_callVI (pc := 2) (As := [.int x1]) (st := []) C cs_X0_123_X0_isTold h (fun _ _ e => w_X0_isTold (Nat.le_refl 1) e) (fun _ _ e => t_X0_isTold e) (Nat.le_trans (Nat.le_of_ble_eq_true rfl) hd) (Nat.le_of_ble_eq_true rfl) dX0_back_2 (fun v2 σ1 h => ?_)
  refine r_ifeq (pc := 5) (tgt := 16) C dX0_back_5 (by decide) h (fun h => ?_) (fun h => ?_)
  · refine r_iconst (pc := 16) (v := (-1)) C dX0_back_16 (by decide) ?_
    exact r_iret (pc := 17) C rfl dX0_back_17 h E
  · refine r_iload_n (pc := 8) (i := 2) C dX0_back_8 rfl rfl ?_
    refine r_iconst (pc := 9) (v := 2) C dX0_back_9 (by decide) ?_
    refine r_callSI (pc := 10) (As := [.int x2, .int 2]) (st := []) C cs_X0_15_X0_in h (fun _ _ e => w_X0_in (Nat.le_refl 0) e) (Nat.le_trans (Nat.le_of_ble_eq_true rfl) hd) (Nat.le_of_ble_eq_true rfl) dX0_back_10 (fun v4 σ3 h => ?_)
    refine r_ifne (pc := 13) (tgt := 18) C dX0_back_13 (by decide) h (fun h => ?_) (fun h => ?_)
    · refine r_aload_n (pc := 18) (i := 0) C dX0_back_18 rfl rfl ?_
      refine r_iload_n (pc := 19) (i := 2) C dX0_back_19 rfl rfl ?_
      refine r_iconst (pc := 20) (v := 1) C dX0_back_20 (by decide) ?_
      refine r_jn (fun k9 => ∀ (w6 : Int32) (σ5 : MM), k9 w6 σ5 = some (rf, σf) → xV B G 0 0 σ5 29 [(0, rv B a0), (1, .int x1)] [.int w6, rv B a0]) h (fun w6 σ5 h => ?_) (fun k7 hk7 h => ?_)
      · refine r_callVV (pc := 29) (As := [.int w6]) (st := []) C cs_X0_247_X0_laysWays h (fun _ e => w_X0_laysWays (Nat.le_refl 2) e) (fun _ e => t_X0_laysWays e) (Nat.le_trans (Nat.le_of_ble_eq_true rfl) hd) (Nat.le_of_ble_eq_true rfl) dX0_back_29 (fun σ8 h => ?_)
        refine r_aload_n (pc := 32) (i := 0) C dX0_back_32 rfl rfl ?_
        refine r_getP (pc := 33) C fd_X0_102 rfl dX0_back_33 h (fun p9 h => ?_)
        refine r_iload_n (pc := 36) (i := 1) C dX0_back_36 rfl rfl ?_
        refine r_aald (pc := 37) 0 (by decide) C dX0_back_37 h (fun p10 h => ?_)
        refine r_iload_n (pc := 38) (i := 1) C dX0_back_38 rfl rfl ?_
        refine r_iald (pc := 39) C dX0_back_39 h (fun v11 h => ?_)
        refine r_ldc (pc := 40) C q1125 dX0_back_40 ?_
        refine r_icmplt (pc := 42) (tgt := 50) C dX0_back_42 (by decide) h (fun h => ?_) (fun h => ?_)
        · refine r_aload_n (pc := 50) (i := 0) C dX0_back_50 rfl rfl ?_
          refine r_getP (pc := 51) C fd_X0_102 rfl dX0_back_51 h (fun p12 h => ?_)
          refine r_iload_n (pc := 54) (i := 1) C dX0_back_54 rfl rfl ?_
          refine r_aald (pc := 55) 0 (by decide) C dX0_back_55 h (fun p13 h => ?_)
          refine r_iload_n (pc := 56) (i := 1) C dX0_back_56 rfl rfl ?_
          refine r_iald (pc := 57) C dX0_back_57 h (fun v14 h => ?_)
          exact r_iret (pc := 58) C rfl dX0_back_58 h E
        · refine r_bipush (pc := 45) (v := (-2)) C dX0_back_45 (by decide) ?_
          refine r_goto (pc := 47) (tgt := 58) C dX0_back_47 (by decide) ?_
          exact r_iret (pc := 58) C rfl dX0_back_58 h E
      · refine r_icmpne (pc := 21) (tgt := 28) C dX0_back_21 (by decide) h (fun h => ?_) (fun h => ?_)
        · refine r_iconst (pc := 28) (v := 0) C dX0_back_28 (by decide) ?_
          refine r_pick (lv' := [(0, rv B a0), (1, .int x1)]) [0, 1] rfl ?_
          exact hk7 _ _ h
        · refine r_iconst (pc := 24) (v := 1) C dX0_back_24 (by decide) ?_
          refine r_goto (pc := 25) (tgt := 29) C dX0_back_25 (by decide) ?_
          refine r_pick (lv' := [(0, rv B a0), (1, .int x1)]) [0, 1] rfl ?_
          exact hk7 _ _ h
    · refine r_iconst (pc := 16) (v := (-1)) C dX0_back_16 (by decide) ?_
      exact r_iret (pc := 17) C rfl dX0_back_17 h E
theorem t_X0_back {F : Nat} {σ : MM} {a0 : Nat} {x1 : Int32} {x2 : Int32} {r : Int32 × MM} (h : g_X0_back F σ a0 x1 x2 = some r) : mT σ a0 = (0, 22) := by
  unfold g_X0_back at h
  exact (r_ck h).1
def g_X0_netOf (F : Nat) (σ : MM) (a0 : Nat) (x1 : Int32) : Option (Int32 × MM) := if mT σ a0 = (0, 22) then ((gP σ a0 0 22 4).bind fun p1 => (gP σ p1 2 16 0).bind fun p2 => bq (g_X4_gets F σ p2 x1) fun v4 σ3 => (gP σ3 a0 0 22 4).bind fun p5 => (gP σ3 p5 2 16 0).bind fun p6 => bq (g_X4_owes F σ3 p6 x1) fun v8 σ7 => some ((v4 - v8), σ7)) else none
theorem w_X0_netOf {B F : Nat} {d : Nat} {σ : MM} {a0 : Nat} {x1 : Int32} {rf : Int32} {σf : MM} (hd : 1 ≤ d) (h : g_X0_netOf F σ a0 x1 = some (rf, σf)) : xMA B yX0_netOf cX0_netOf 2 (some .int) d 0 0 [rv B a0, .int x1] σ (some (.int rf)) σf := by
  refine xMA.of (by decide +kernel) (Nat.le_of_ble_eq_true rfl) (cat_rv (cat_int cat_nil)) (fun G C E => ?_)
  unfold g_X0_netOf at h
  obtain ⟨-, h⟩ := r_ck h
  refine r_aload_n (pc := 0) (i := 0) C dX0_netOf_0 rfl rfl ?_
  refine r_getP (pc := 1) C fd_X0_66 rfl dX0_netOf_1 h (fun p1 h => ?_)
  refine r_getP (pc := 4) C fd_X0_131 rfl dX0_netOf_4 h (fun p2 h => ?_)
  refine r_iload_n (pc := 7) (i := 1) C dX0_netOf_7 rfl rfl ?_
  refine r_callVI (pc := 8) (As := [.int x1]) (st := []) C cs_X0_217_X4_gets h (fun _ _ e => w_X4_gets (Nat.le_refl 0) e) (fun _ _ e => t_X4_gets e) (Nat.le_trans (Nat.le_of_ble_eq_true rfl) hd) (Nat.le_of_ble_eq_true rfl) dX0_netOf_8 (fun v4 σ3 h => ?_)
  refine r_aload_n (pc := 11) (i := 0) C dX0_netOf_11 rfl rfl ?_
  refine r_getP (pc := 12) C fd_X0_66 rfl dX0_netOf_12 h (fun p5 h => ?_)
  refine r_getP (pc := 15) C fd_X0_131 rfl dX0_netOf_15 h (fun p6 h => ?_)
  refine r_iload_n (pc := 18) (i := 1) C dX0_netOf_18 rfl rfl ?_
  refine r_callVI (pc := 19) (As := [.int x1]) (st := [.int v4]) C cs_X0_214_X4_owes h (fun _ _ e => w_X4_owes (Nat.le_refl 0) e) (fun _ _ e => t_X4_owes e) (Nat.le_trans (Nat.le_of_ble_eq_true rfl) hd) (Nat.le_of_ble_eq_true rfl) dX0_netOf_19 (fun v8 σ7 h => ?_)
  refine r_isub (pc := 22) C dX0_netOf_22 ?_
  exact r_iret (pc := 23) C rfl dX0_netOf_23 h E
theorem t_X0_netOf {F : Nat} {σ : MM} {a0 : Nat} {x1 : Int32} {r : Int32 × MM} (h : g_X0_netOf F σ a0 x1 = some r) : mT σ a0 = (0, 22) := by
  unfold g_X0_netOf at h
  exact (r_ck h).1
theorem yd_X0_netOf : xYd yX0_netOf 1 := ⟨by decide +kernel, by decide +kernel, by decide +kernel⟩
theorem cs_X0_251_X0_netOf : xCV RX0 251 yX0_netOf cX0_netOf 2 (some .int) 0 22 1 := ⟨by decide, by decide, _, rfl, yd_X0_netOf, Or.inl ⟨rfl, lw_V q1134 q1136 qs37 q116 q1137⟩⟩
def l_X0_lack_4 (K : Int32 → MM → Option (Int32 × MM)) (F : Nat) (a0 : Nat) : Nat → Int32 → Int32 → MM → Option (Int32 × MM)
  | 0, _, _, _ => none
  | f + 1, z1, z2, σ => if z2 < 10 then (bq (g_X0_netOf F σ a0 z2) fun v2 σ1 => l_X0_lack_4 K F a0 f ((z1 + (jmax 0 v2))) ((z2 + 1)) σ1) else (K z1 σ)
def g_X0_lack (F : Nat) (σ : MM) (a0 : Nat) : Option (Int32 × MM) := if mT σ a0 = (0, 22) then (l_X0_lack_4 (fun (r1_6 : Int32) (σ5 : MM) => some (r1_6, σ5)) F a0 F 0 0 σ) else none
theorem wl_X0_lack_4 {B : Nat} {G : XG} {d : Nat} {rf : Int32} {σf : MM} (hd : 2 ≤ d) (C : xC B G yX0_lack cX0_lack 3 (some .int) d 0 0) (E : xEnd B G (some (.int rf)) σf 0 0) {K : Int32 → MM → Option (Int32 × MM)} {F : Nat} {a0 : Nat} (hK : ∀ (q1 : Int32) (σ : MM), K q1 σ = some (rf, σf) → xV B G 0 0 σ 28 [(1, .int q1)] []) : ∀ (f : Nat) (z1 : Int32) (z2 : Int32) (σ : MM), l_X0_lack_4 K F a0 f z1 z2 σ = some (rf, σf) → xV B G 0 0 σ 4 [(0, rv B a0), (1, .int z1), (2, .int z2)] [] := by
  intro f
  induction f with
  | zero =>
    intro z1 z2 σ h
    have h : none = some (rf, σf) := h
    cases h
  | succ f ih =>
    intro z1 z2 σ h
    rw [l_X0_lack_4.eq_2] at h
    refine r_iload_n (pc := 4) (i := 2) C dX0_lack_4 rfl rfl ?_
    refine r_bipush (pc := 5) (v := 10) C dX0_lack_5 (by decide) ?_
    refine r_icmpge (pc := 7) (tgt := 28) C dX0_lack_7 (by decide) h (fun h => ?_) (fun h => ?_)
    · refine r_pick (lv' := [(1, .int z1)]) [1] rfl ?_
      exact hK _ _ h
    · refine r_iload_n (pc := 10) (i := 1) C dX0_lack_10 rfl rfl ?_
      refine r_iconst (pc := 11) (v := 0) C dX0_lack_11 (by decide) ?_
      refine r_aload_n (pc := 12) (i := 0) C dX0_lack_12 rfl rfl ?_
      refine r_iload_n (pc := 13) (i := 2) C dX0_lack_13 rfl rfl ?_
      refine r_callVI (pc := 14) (As := [.int z2]) (st := [.int 0, .int z1]) C cs_X0_251_X0_netOf h (fun _ _ e => w_X0_netOf (Nat.le_refl 1) e) (fun _ _ e => t_X0_netOf e) (Nat.le_trans (Nat.le_of_ble_eq_true rfl) hd) (Nat.le_of_ble_eq_true rfl) dX0_lack_14 (fun v2 σ1 h => ?_)
      refine r_mmax (pc := 17) C q915 q496 q126 q497 (Nat.le_trans (Nat.le_of_ble_eq_true rfl) hd) (Nat.le_of_ble_eq_true rfl) (Nat.le_of_ble_eq_true rfl) (Nat.le_of_ble_eq_true rfl) dX0_lack_17 ?_
      refine r_iadd (pc := 20) C dX0_lack_20 ?_
      refine r_istore_n (pc := 21) (i := 1) C dX0_lack_21 rfl (by decide) ?_
      refine r_iinc (pc := 22) (i := 2) (v := (z2 + 1)) C dX0_lack_22 rfl rfl (by decide) ?_
      refine r_goto (pc := 25) (tgt := 4) C dX0_lack_25 (by decide) ?_
      refine r_pick (lv' := [(0, rv B a0), (1, .int (z1 + (jmax 0 v2))), (2, .int (z2 + 1))]) [0, 1, 2] rfl ?_
      exact ih _ _ _ h
theorem w_X0_lack {B F : Nat} {d : Nat} {σ : MM} {a0 : Nat} {rf : Int32} {σf : MM} (hd : 2 ≤ d) (h : g_X0_lack F σ a0 = some (rf, σf)) : xMA B yX0_lack cX0_lack 3 (some .int) d 0 0 [rv B a0] σ (some (.int rf)) σf := by
  refine xMA.of (by decide +kernel) (Nat.le_of_ble_eq_true rfl) (cat_rv cat_nil) (fun G C E => ?_)
  unfold g_X0_lack at h
  obtain ⟨-, h⟩ := r_ck h
  refine r_iconst (pc := 0) (v := 0) C dX0_lack_0 (by decide) ?_
  refine r_istore_n (pc := 1) (i := 1) C dX0_lack_1 rfl (by decide) ?_
  refine r_iconst (pc := 2) (v := 0) C dX0_lack_2 (by decide) ?_
  refine r_istore_n (pc := 3) (i := 2) C dX0_lack_3 rfl (by decide) ?_
  refine r_pick (lv' := [(0, rv B a0), (1, .int 0), (2, .int 0)]) [0, 1, 2] rfl ?_
  refine wl_X0_lack_4 hd C E (fun r1_6 σ5 h => ?_) _ _ _ _ h
  refine r_iload_n (pc := 28) (i := 1) C dX0_lack_28 rfl rfl ?_
  exact r_iret (pc := 29) C rfl dX0_lack_29 h E
theorem t_X0_lack {F : Nat} {σ : MM} {a0 : Nat} {r : Int32 × MM} (h : g_X0_lack F σ a0 = some r) : mT σ a0 = (0, 22) := by
  unfold g_X0_lack at h
  exact (r_ck h).1
theorem fd_X0_105 : xFg RX0 105 0 22 17 := ⟨_, rfl, rfl, by decide, by decide, in_X0, Or.inl q332⟩
theorem ft_X0_17 : xFt 0 17 (.array .int) true := ⟨_, rfl, by decide +kernel, rfl, rfl⟩
theorem fd_X0_108 : xFg RX0 108 0 22 18 := ⟨_, rfl, rfl, by decide, by decide, in_X0, Or.inl q333⟩
theorem ft_X0_18 : xFt 0 18 (.array .int) true := ⟨_, rfl, by decide +kernel, rfl, rfl⟩
def l_X0_takesLack_15 (K : Int32 → MM → Option (MM)) (F : Nat) (a0 : Nat) (x2 : Int32) (x3 : Int32) : Nat → Int32 → Int32 → MM → Option (MM)
  | 0, _, _, _ => none
  | f + 1, z1, z4, σ => bq (g_X0_netOf F σ a0 x3) fun v2 σ1 => if z4 < v2 then ((gP σ1 a0 0 22 17).bind fun p3 => (sI σ1 p3 z1 x3).bind fun σ4 => l_X0_takesLack_15 K F a0 x2 x3 f ((z1 + 1)) ((z4 + 1)) σ4) else (K z1 σ1)
def l_X0_takesLack_44 (K : Int32 → MM → Option (MM)) (F : Nat) (a0 : Nat) (x1 : Int32) (x3 : Int32) : Nat → Int32 → Int32 → MM → Option (MM)
  | 0, _, _, _ => none
  | f + 1, z2, z4, σ => bq (g_X0_netOf F σ a0 x3) fun v8 σ7 => if z4 < (-v8) then ((gP σ7 a0 0 22 18).bind fun p9 => (sI σ7 p9 z2 x3).bind fun σ10 => l_X0_takesLack_44 K F a0 x1 x3 f ((z2 + 1)) ((z4 + 1)) σ10) else (K z2 σ7)
def l_X0_takesLack_6 (K : MM → Option (MM)) (F : Nat) (a0 : Nat) : Nat → Int32 → Int32 → Int32 → MM → Option (MM)
  | 0, _, _, _, _ => none
  | f + 1, z1, z2, z3, σ => if z3 < 10 then (l_X0_takesLack_15 (fun (r1_6 : Int32) (σ5 : MM) => l_X0_takesLack_44 (fun (r2_12 : Int32) (σ11 : MM) => l_X0_takesLack_6 K F a0 f r1_6 r2_12 ((z3 + 1)) σ11) F a0 r1_6 z3 F z2 0 σ5) F a0 z2 z3 F z1 0 σ) else (K σ)
def g_X0_takesLack (F : Nat) (σ : MM) (a0 : Nat) : Option (MM) := if mT σ a0 = (0, 22) then (l_X0_takesLack_6 (fun (σ13 : MM) => some σ13) F a0 F 0 0 0 σ) else none
theorem wl_X0_takesLack_15 {B : Nat} {G : XG} {d : Nat} {σf : MM} (hd : 2 ≤ d) (C : xC B G yX0_takesLack cX0_takesLack 5 none d 0 0) (E : xEnd B G none σf 0 0) {K : Int32 → MM → Option (MM)} {F : Nat} {a0 : Nat} {x2 : Int32} {x3 : Int32} (hK : ∀ (q1 : Int32) (σ : MM), K q1 σ = some σf → xV B G 0 0 σ 41 [(0, rv B a0), (1, .int q1), (2, .int x2), (3, .int x3)] []) : ∀ (f : Nat) (z1 : Int32) (z4 : Int32) (σ : MM), l_X0_takesLack_15 K F a0 x2 x3 f z1 z4 σ = some σf → xV B G 0 0 σ 15 [(0, rv B a0), (1, .int z1), (2, .int x2), (3, .int x3), (4, .int z4)] [] := by
  intro f
  induction f with
  | zero =>
    intro z1 z4 σ h
    have h : none = some σf := h
    cases h
  | succ f ih =>
    intro z1 z4 σ h
    rw [l_X0_takesLack_15.eq_2] at h
    refine r_iload (pc := 15) (i := 4) C dX0_takesLack_15 rfl ?_
    refine r_aload_n (pc := 17) (i := 0) C dX0_takesLack_17 rfl rfl ?_
    refine r_iload_n (pc := 18) (i := 3) C dX0_takesLack_18 rfl rfl ?_
    refine r_callVI (pc := 19) (As := [.int x3]) (st := [.int z4]) C cs_X0_251_X0_netOf h (fun _ _ e => w_X0_netOf (Nat.le_refl 1) e) (fun _ _ e => t_X0_netOf e) (Nat.le_trans (Nat.le_of_ble_eq_true rfl) hd) (Nat.le_of_ble_eq_true rfl) dX0_takesLack_19 (fun v2 σ1 h => ?_)
    refine r_icmpge (pc := 22) (tgt := 41) C dX0_takesLack_22 (by decide) h (fun h => ?_) (fun h => ?_)
    · refine r_pick (lv' := [(0, rv B a0), (1, .int z1), (2, .int x2), (3, .int x3)]) [0, 1, 2, 3] rfl ?_
      exact hK _ _ h
    · refine r_aload_n (pc := 25) (i := 0) C dX0_takesLack_25 rfl rfl ?_
      refine r_getP (pc := 26) C fd_X0_105 rfl dX0_takesLack_26 h (fun p3 h => ?_)
      refine r_iload_n (pc := 29) (i := 1) C dX0_takesLack_29 rfl rfl ?_
      refine r_iload_n (pc := 30) (i := 3) C dX0_takesLack_30 rfl rfl ?_
      refine r_iast (pc := 31) C dX0_takesLack_31 h (fun σ4 h => ?_)
      refine r_iinc (pc := 32) (i := 1) (v := (z1 + 1)) C dX0_takesLack_32 rfl rfl (by decide) ?_
      refine r_iinc (pc := 35) (i := 4) (v := (z4 + 1)) C dX0_takesLack_35 rfl rfl (by decide) ?_
      refine r_goto (pc := 38) (tgt := 15) C dX0_takesLack_38 (by decide) ?_
      refine r_pick (lv' := [(0, rv B a0), (1, .int (z1 + 1)), (2, .int x2), (3, .int x3), (4, .int (z4 + 1))]) [0, 1, 2, 3, 4] rfl ?_
      exact ih _ _ _ h
theorem wl_X0_takesLack_44 {B : Nat} {G : XG} {d : Nat} {σf : MM} (hd : 2 ≤ d) (C : xC B G yX0_takesLack cX0_takesLack 5 none d 0 0) (E : xEnd B G none σf 0 0) {K : Int32 → MM → Option (MM)} {F : Nat} {a0 : Nat} {x1 : Int32} {x3 : Int32} (hK : ∀ (q2 : Int32) (σ : MM), K q2 σ = some σf → xV B G 0 0 σ 71 [(0, rv B a0), (1, .int x1), (2, .int q2), (3, .int x3)] []) : ∀ (f : Nat) (z2 : Int32) (z4 : Int32) (σ : MM), l_X0_takesLack_44 K F a0 x1 x3 f z2 z4 σ = some σf → xV B G 0 0 σ 44 [(0, rv B a0), (1, .int x1), (2, .int z2), (3, .int x3), (4, .int z4)] [] := by
  intro f
  induction f with
  | zero =>
    intro z2 z4 σ h
    have h : none = some σf := h
    cases h
  | succ f ih =>
    intro z2 z4 σ h
    rw [l_X0_takesLack_44.eq_2] at h
    refine r_iload (pc := 44) (i := 4) C dX0_takesLack_44 rfl ?_
    refine r_aload_n (pc := 46) (i := 0) C dX0_takesLack_46 rfl rfl ?_
    refine r_iload_n (pc := 47) (i := 3) C dX0_takesLack_47 rfl rfl ?_
    refine r_callVI (pc := 48) (As := [.int x3]) (st := [.int z4]) C cs_X0_251_X0_netOf h (fun _ _ e => w_X0_netOf (Nat.le_refl 1) e) (fun _ _ e => t_X0_netOf e) (Nat.le_trans (Nat.le_of_ble_eq_true rfl) hd) (Nat.le_of_ble_eq_true rfl) dX0_takesLack_48 (fun v8 σ7 h => ?_)
    refine r_ineg (pc := 51) C dX0_takesLack_51 ?_
    refine r_icmpge (pc := 52) (tgt := 71) C dX0_takesLack_52 (by decide) h (fun h => ?_) (fun h => ?_)
    · refine r_pick (lv' := [(0, rv B a0), (1, .int x1), (2, .int z2), (3, .int x3)]) [0, 1, 2, 3] rfl ?_
      exact hK _ _ h
    · refine r_aload_n (pc := 55) (i := 0) C dX0_takesLack_55 rfl rfl ?_
      refine r_getP (pc := 56) C fd_X0_108 rfl dX0_takesLack_56 h (fun p9 h => ?_)
      refine r_iload_n (pc := 59) (i := 2) C dX0_takesLack_59 rfl rfl ?_
      refine r_iload_n (pc := 60) (i := 3) C dX0_takesLack_60 rfl rfl ?_
      refine r_iast (pc := 61) C dX0_takesLack_61 h (fun σ10 h => ?_)
      refine r_iinc (pc := 62) (i := 2) (v := (z2 + 1)) C dX0_takesLack_62 rfl rfl (by decide) ?_
      refine r_iinc (pc := 65) (i := 4) (v := (z4 + 1)) C dX0_takesLack_65 rfl rfl (by decide) ?_
      refine r_goto (pc := 68) (tgt := 44) C dX0_takesLack_68 (by decide) ?_
      refine r_pick (lv' := [(0, rv B a0), (1, .int x1), (2, .int (z2 + 1)), (3, .int x3), (4, .int (z4 + 1))]) [0, 1, 2, 3, 4] rfl ?_
      exact ih _ _ _ h
theorem wl_X0_takesLack_6 {B : Nat} {G : XG} {d : Nat} {σf : MM} (hd : 2 ≤ d) (C : xC B G yX0_takesLack cX0_takesLack 5 none d 0 0) (E : xEnd B G none σf 0 0) {K : MM → Option (MM)} {F : Nat} {a0 : Nat} (hK : ∀ (σ : MM), K σ = some σf → xV B G 0 0 σ 77 [] []) : ∀ (f : Nat) (z1 : Int32) (z2 : Int32) (z3 : Int32) (σ : MM), l_X0_takesLack_6 K F a0 f z1 z2 z3 σ = some σf → xV B G 0 0 σ 6 [(0, rv B a0), (1, .int z1), (2, .int z2), (3, .int z3)] [] := by
  intro f
  induction f with
  | zero =>
    intro z1 z2 z3 σ h
    have h : none = some σf := h
    cases h
  | succ f ih =>
    intro z1 z2 z3 σ h
    rw [l_X0_takesLack_6.eq_2] at h
    refine r_iload_n (pc := 6) (i := 3) C dX0_takesLack_6 rfl rfl ?_
    refine r_bipush (pc := 7) (v := 10) C dX0_takesLack_7 (by decide) ?_
    refine r_icmpge (pc := 9) (tgt := 77) C dX0_takesLack_9 (by decide) h (fun h => ?_) (fun h => ?_)
    · refine r_pick (lv' := []) [] rfl ?_
      exact hK _ h
    · refine r_iconst (pc := 12) (v := 0) C dX0_takesLack_12 (by decide) ?_
      refine r_istore (pc := 13) (i := 4) C dX0_takesLack_13 (by decide) ?_
      refine r_pick (lv' := [(0, rv B a0), (1, .int z1), (2, .int z2), (3, .int z3), (4, .int 0)]) [0, 1, 2, 3, 4] rfl ?_
      refine wl_X0_takesLack_15 hd C E (fun r1_6 σ5 h => ?_) _ _ _ _ h
      refine r_iconst (pc := 41) (v := 0) C dX0_takesLack_41 (by decide) ?_
      refine r_istore (pc := 42) (i := 4) C dX0_takesLack_42 (by decide) ?_
      refine r_pick (lv' := [(0, rv B a0), (1, .int r1_6), (2, .int z2), (3, .int z3), (4, .int 0)]) [0, 1, 2, 3, 4] rfl ?_
      refine wl_X0_takesLack_44 hd C E (fun r2_12 σ11 h => ?_) _ _ _ _ h
      refine r_iinc (pc := 71) (i := 3) (v := (z3 + 1)) C dX0_takesLack_71 rfl rfl (by decide) ?_
      refine r_goto (pc := 74) (tgt := 6) C dX0_takesLack_74 (by decide) ?_
      refine r_pick (lv' := [(0, rv B a0), (1, .int r1_6), (2, .int r2_12), (3, .int (z3 + 1))]) [0, 1, 2, 3] rfl ?_
      exact ih _ _ _ _ h
theorem w_X0_takesLack {B F : Nat} {d : Nat} {σ : MM} {a0 : Nat} {σf : MM} (hd : 2 ≤ d) (h : g_X0_takesLack F σ a0 = some σf) : xMA B yX0_takesLack cX0_takesLack 5 none d 0 0 [rv B a0] σ none σf := by
  refine xMA.of (by decide +kernel) (Nat.le_of_ble_eq_true rfl) (cat_rv cat_nil) (fun G C E => ?_)
  unfold g_X0_takesLack at h
  obtain ⟨-, h⟩ := r_ck h
  refine r_iconst (pc := 0) (v := 0) C dX0_takesLack_0 (by decide) ?_
  refine r_istore_n (pc := 1) (i := 1) C dX0_takesLack_1 rfl (by decide) ?_
  refine r_iconst (pc := 2) (v := 0) C dX0_takesLack_2 (by decide) ?_
  refine r_istore_n (pc := 3) (i := 2) C dX0_takesLack_3 rfl (by decide) ?_
  refine r_iconst (pc := 4) (v := 0) C dX0_takesLack_4 (by decide) ?_
  refine r_istore_n (pc := 5) (i := 3) C dX0_takesLack_5 rfl (by decide) ?_
  refine r_pick (lv' := [(0, rv B a0), (1, .int 0), (2, .int 0), (3, .int 0)]) [0, 1, 2, 3] rfl ?_
  refine wl_X0_takesLack_6 hd C E (fun  σ13 h => ?_) _ _ _ _ _ h
  exact r_vret (pc := 77) C rfl dX0_takesLack_77 h E
theorem t_X0_takesLack {F : Nat} {σ : MM} {a0 : Nat} {r : MM} (h : g_X0_takesLack F σ a0 = some r) : mT σ a0 = (0, 22) := by
  unfold g_X0_takesLack at h
  exact (r_ck h).1
theorem yd_X0_evens : xYd yX0_evens 4 := ⟨by decide +kernel, by decide +kernel, by decide +kernel⟩
theorem cs_X0_254_X0_evens : xCV RX0 254 yX0_evens cX0_evens 6 none 0 22 4 := ⟨by decide, by decide, _, rfl, yd_X0_evens, Or.inl ⟨rfl, lw_V q1142 q1144 qs39 q116 q1145⟩⟩
def l_X0_evens_54 (rec : MM → Nat → Int32 → Int32 → Int32 → Int32 → Option (MM)) (K : MM → Option (MM)) (F : Nat) (a0 : Nat) (x1 : Int32) (x2 : Int32) (x3 : Int32) (x4 : Int32) : Nat → Int32 → MM → Option (MM)
  | 0, _, _ => none
  | f + 1, z5, σ => if z5 < x2 then (bq (g_X0_has F σ x3 z5) fun v3 σ2 => if v3 = 0 then ((gP σ2 a0 0 22 13).bind fun p4 => (gP σ2 a0 0 22 18).bind fun p5 => (aI σ2 p5 20 z5).bind fun v6 => (sI σ2 p4 x1 v6).bind fun σ7 => (gP σ7 a0 0 22 17).bind fun p8 => (aI σ7 p8 20 x1).bind fun v9 => (gP σ7 a0 0 22 18).bind fun p10 => (aI σ7 p10 20 z5).bind fun v11 => bq (g_X0_way F σ7 a0 v9 v11) fun v13 σ12 => (rec σ12 a0 ((x1 + 1)) x2 ((x3 ||| ((1 : Int32) <<< (z5 &&& 31)))) ((x4 + v13))).bind fun σ14 => l_X0_evens_54 rec K F a0 x1 x2 x3 x4 f ((z5 + 1)) σ14) else (l_X0_evens_54 rec K F a0 x1 x2 x3 x4 f ((z5 + 1)) σ2)) else (K σ)
def l_X0_evens_24 (rec : MM → Nat → Int32 → Int32 → Int32 → Int32 → Option (MM)) (K : MM → Option (MM)) (F : Nat) (a0 : Nat) (x2 : Int32) : Nat → Int32 → MM → Option (MM)
  | 0, _, _ => none
  | f + 1, z5, σ => if z5 < x2 then ((gP σ a0 0 22 14).bind fun p17 => (gP σ a0 0 22 13).bind fun p18 => (aI σ p18 20 z5).bind fun v19 => (sI σ p17 z5 v19).bind fun σ20 => l_X0_evens_24 rec K F a0 x2 f ((z5 + 1)) σ20) else (K σ)
def s_X0_evens (F : Nat) (rec : MM → Nat → Int32 → Int32 → Int32 → Int32 → Option (MM)) (σ : MM) (a0 : Nat) (x1 : Int32) (x2 : Int32) (x3 : Int32) (x4 : Int32) : Option (MM) := if mT σ a0 = (0, 22) then ((gI σ a0 0 22 15).bind fun v1 => if x4 < v1 then (if x1 = x2 then ((pI σ a0 0 22 15 x4).bind fun σ16 => l_X0_evens_24 rec (fun (σ21 : MM) => some σ21) F a0 x2 F 0 σ16) else (l_X0_evens_54 rec (fun (σ15 : MM) => some σ15) F a0 x1 x2 x3 x4 F 0 σ)) else (some σ)) else none
theorem wl_X0_evens_54 {B : Nat} {G : XG} {d : Nat} {σf : MM} {rec : MM → Nat → Int32 → Int32 → Int32 → Int32 → Option (MM)} {dr : Nat} (hrec : ∀ (σ : MM) (b0 : Nat) (c1 : Int32) (c2 : Int32) (c3 : Int32) (c4 : Int32) (σ' : MM), rec σ b0 c1 c2 c3 c4 = some σ' → xMA B yX0_evens cX0_evens 6 none dr 0 0 [rv B b0, .int c1, .int c2, .int c3, .int c4] σ none σ' ∧ mT σ b0 = (0, 22)) (hd : dr + 1 ≤ d) (hd2 : 2 ≤ d) (C : xC B G yX0_evens cX0_evens 6 none d 0 0) (E : xEnd B G none σf 0 0) {K : MM → Option (MM)} {F : Nat} {a0 : Nat} {x1 : Int32} {x2 : Int32} {x3 : Int32} {x4 : Int32} (hK : ∀ (σ : MM), K σ = some σf → xV B G 0 0 σ 125 [] []) : ∀ (f : Nat) (z5 : Int32) (σ : MM), l_X0_evens_54 rec K F a0 x1 x2 x3 x4 f z5 σ = some σf → xV B G 0 0 σ 54 [(0, rv B a0), (1, .int x1), (2, .int x2), (3, .int x3), (4, .int x4), (5, .int z5)] [] := by
  intro f
  induction f with
  | zero =>
    intro z5 σ h
    have h : none = some σf := h
    cases h
  | succ f ih =>
    intro z5 σ h
    rw [l_X0_evens_54.eq_2] at h
    refine r_iload (pc := 54) (i := 5) C dX0_evens_54 rfl ?_
    refine r_iload_n (pc := 56) (i := 2) C dX0_evens_56 rfl rfl ?_
    refine r_icmpge (pc := 57) (tgt := 125) C dX0_evens_57 (by decide) h (fun h => ?_) (fun h => ?_)
    · refine r_pick (lv' := []) [] rfl ?_
      exact hK _ h
    · refine r_iload_n (pc := 60) (i := 3) C dX0_evens_60 rfl rfl ?_
      refine r_iload (pc := 61) (i := 5) C dX0_evens_61 rfl ?_
      refine r_callSI (pc := 63) (As := [.int x3, .int z5]) (st := []) C cs_X0_23_X0_has h (fun _ _ e => w_X0_has (Nat.le_refl 0) e) (by omega) (Nat.le_of_ble_eq_true rfl) dX0_evens_63 (fun v3 σ2 h => ?_)
      refine r_ifeq (pc := 66) (tgt := 72) C dX0_evens_66 (by decide) h (fun h => ?_) (fun h => ?_)
      · refine r_aload_n (pc := 72) (i := 0) C dX0_evens_72 rfl rfl ?_
        refine r_getP (pc := 73) C fd_X0_94 rfl dX0_evens_73 h (fun p4 h => ?_)
        refine r_iload_n (pc := 76) (i := 1) C dX0_evens_76 rfl rfl ?_
        refine r_aload_n (pc := 77) (i := 0) C dX0_evens_77 rfl rfl ?_
        refine r_getP (pc := 78) C fd_X0_108 rfl dX0_evens_78 h (fun p5 h => ?_)
        refine r_iload (pc := 81) (i := 5) C dX0_evens_81 rfl ?_
        refine r_iald (pc := 83) C dX0_evens_83 h (fun v6 h => ?_)
        refine r_iast (pc := 84) C dX0_evens_84 h (fun σ7 h => ?_)
        refine r_aload_n (pc := 85) (i := 0) C dX0_evens_85 rfl rfl ?_
        refine r_iload_n (pc := 86) (i := 1) C dX0_evens_86 rfl rfl ?_
        refine r_iconst (pc := 87) (v := 1) C dX0_evens_87 (by decide) ?_
        refine r_iadd (pc := 88) C dX0_evens_88 ?_
        refine r_iload_n (pc := 89) (i := 2) C dX0_evens_89 rfl rfl ?_
        refine r_iload_n (pc := 90) (i := 3) C dX0_evens_90 rfl rfl ?_
        refine r_iconst (pc := 91) (v := 1) C dX0_evens_91 (by decide) ?_
        refine r_iload (pc := 92) (i := 5) C dX0_evens_92 rfl ?_
        refine r_ishl (pc := 94) C dX0_evens_94 ?_
        refine r_ior (pc := 95) C dX0_evens_95 ?_
        refine r_iload (pc := 96) (i := 4) C dX0_evens_96 rfl ?_
        refine r_aload_n (pc := 98) (i := 0) C dX0_evens_98 rfl rfl ?_
        refine r_aload_n (pc := 99) (i := 0) C dX0_evens_99 rfl rfl ?_
        refine r_getP (pc := 100) C fd_X0_105 rfl dX0_evens_100 h (fun p8 h => ?_)
        refine r_iload_n (pc := 103) (i := 1) C dX0_evens_103 rfl rfl ?_
        refine r_iald (pc := 104) C dX0_evens_104 h (fun v9 h => ?_)
        refine r_aload_n (pc := 105) (i := 0) C dX0_evens_105 rfl rfl ?_
        refine r_getP (pc := 106) C fd_X0_108 rfl dX0_evens_106 h (fun p10 h => ?_)
        refine r_iload (pc := 109) (i := 5) C dX0_evens_109 rfl ?_
        refine r_iald (pc := 111) C dX0_evens_111 h (fun v11 h => ?_)
        refine r_callVI (pc := 112) (As := [.int v9, .int v11]) (st := [.int x4, .int (x3 ||| ((1 : Int32) <<< (z5 &&& 31))), .int x2, .int (x1 + 1), rv B a0]) C cs_X0_177_X0_way h (fun _ _ e => w_X0_way (Nat.le_refl 1) e) (fun _ _ e => t_X0_way e) (by omega) (Nat.le_of_ble_eq_true rfl) dX0_evens_112 (fun v13 σ12 h => ?_)
        refine r_iadd (pc := 115) C dX0_evens_115 ?_
        refine r_callVV (pc := 116) (As := [.int (x1 + 1), .int x2, .int (x3 ||| ((1 : Int32) <<< (z5 &&& 31))), .int (x4 + v13)]) (st := []) C cs_X0_254_X0_evens h (fun _ e => (hrec _ _ _ _ _ _ _ e).1) (fun _ e => (hrec _ _ _ _ _ _ _ e).2) (by omega) (Nat.le_of_ble_eq_true rfl) dX0_evens_116 (fun σ14 h => ?_)
        refine r_iinc (pc := 119) (i := 5) (v := (z5 + 1)) C dX0_evens_119 rfl rfl (by decide) ?_
        refine r_goto (pc := 122) (tgt := 54) C dX0_evens_122 (by decide) ?_
        refine r_pick (lv' := [(0, rv B a0), (1, .int x1), (2, .int x2), (3, .int x3), (4, .int x4), (5, .int (z5 + 1))]) [0, 1, 2, 3, 4, 5] rfl ?_
        exact ih _ _ h
      · refine r_goto (pc := 69) (tgt := 119) C dX0_evens_69 (by decide) ?_
        refine r_iinc (pc := 119) (i := 5) (v := (z5 + 1)) C dX0_evens_119 rfl rfl (by decide) ?_
        refine r_goto (pc := 122) (tgt := 54) C dX0_evens_122 (by decide) ?_
        refine r_pick (lv' := [(0, rv B a0), (1, .int x1), (2, .int x2), (3, .int x3), (4, .int x4), (5, .int (z5 + 1))]) [0, 1, 2, 3, 4, 5] rfl ?_
        exact ih _ _ h
theorem wl_X0_evens_24 {B : Nat} {G : XG} {d : Nat} {σf : MM} {rec : MM → Nat → Int32 → Int32 → Int32 → Int32 → Option (MM)} {dr : Nat} (hrec : ∀ (σ : MM) (b0 : Nat) (c1 : Int32) (c2 : Int32) (c3 : Int32) (c4 : Int32) (σ' : MM), rec σ b0 c1 c2 c3 c4 = some σ' → xMA B yX0_evens cX0_evens 6 none dr 0 0 [rv B b0, .int c1, .int c2, .int c3, .int c4] σ none σ' ∧ mT σ b0 = (0, 22)) (hd : dr + 1 ≤ d) (hd2 : 2 ≤ d) (C : xC B G yX0_evens cX0_evens 6 none d 0 0) (E : xEnd B G none σf 0 0) {K : MM → Option (MM)} {F : Nat} {a0 : Nat} {x2 : Int32} (hK : ∀ (σ : MM), K σ = some σf → xV B G 0 0 σ 50 [] []) : ∀ (f : Nat) (z5 : Int32) (σ : MM), l_X0_evens_24 rec K F a0 x2 f z5 σ = some σf → xV B G 0 0 σ 24 [(0, rv B a0), (2, .int x2), (5, .int z5)] [] := by
  intro f
  induction f with
  | zero =>
    intro z5 σ h
    have h : none = some σf := h
    cases h
  | succ f ih =>
    intro z5 σ h
    rw [l_X0_evens_24.eq_2] at h
    refine r_iload (pc := 24) (i := 5) C dX0_evens_24 rfl ?_
    refine r_iload_n (pc := 26) (i := 2) C dX0_evens_26 rfl rfl ?_
    refine r_icmpge (pc := 27) (tgt := 50) C dX0_evens_27 (by decide) h (fun h => ?_) (fun h => ?_)
    · refine r_pick (lv' := []) [] rfl ?_
      exact hK _ h
    · refine r_aload_n (pc := 30) (i := 0) C dX0_evens_30 rfl rfl ?_
      refine r_getP (pc := 31) C fd_X0_97 rfl dX0_evens_31 h (fun p17 h => ?_)
      refine r_iload (pc := 34) (i := 5) C dX0_evens_34 rfl ?_
      refine r_aload_n (pc := 36) (i := 0) C dX0_evens_36 rfl rfl ?_
      refine r_getP (pc := 37) C fd_X0_94 rfl dX0_evens_37 h (fun p18 h => ?_)
      refine r_iload (pc := 40) (i := 5) C dX0_evens_40 rfl ?_
      refine r_iald (pc := 42) C dX0_evens_42 h (fun v19 h => ?_)
      refine r_iast (pc := 43) C dX0_evens_43 h (fun σ20 h => ?_)
      refine r_iinc (pc := 44) (i := 5) (v := (z5 + 1)) C dX0_evens_44 rfl rfl (by decide) ?_
      refine r_goto (pc := 47) (tgt := 24) C dX0_evens_47 (by decide) ?_
      refine r_pick (lv' := [(0, rv B a0), (2, .int x2), (5, .int (z5 + 1))]) [0, 2, 5] rfl ?_
      exact ih _ _ h
theorem ws_X0_evens {B F : Nat} {d : Nat} {σ : MM} {a0 : Nat} {x1 : Int32} {x2 : Int32} {x3 : Int32} {x4 : Int32} {σf : MM} {rec : MM → Nat → Int32 → Int32 → Int32 → Int32 → Option (MM)} {dr : Nat} (hrec : ∀ (σ : MM) (b0 : Nat) (c1 : Int32) (c2 : Int32) (c3 : Int32) (c4 : Int32) (σ' : MM), rec σ b0 c1 c2 c3 c4 = some σ' → xMA B yX0_evens cX0_evens 6 none dr 0 0 [rv B b0, .int c1, .int c2, .int c3, .int c4] σ none σ' ∧ mT σ b0 = (0, 22)) (hd : dr + 1 ≤ d) (hd2 : 2 ≤ d) (h : s_X0_evens F rec σ a0 x1 x2 x3 x4 = some σf) : xMA B yX0_evens cX0_evens 6 none d 0 0 [rv B a0, .int x1, .int x2, .int x3, .int x4] σ none σf := by
  refine xMA.of (by decide +kernel) (Nat.le_of_ble_eq_true rfl) (cat_rv (cat_int (cat_int (cat_int (cat_int cat_nil))))) (fun G C E => ?_)
  unfold s_X0_evens at h
  obtain ⟨-, h⟩ := r_ck h
  refine r_iload (pc := 0) (i := 4) C dX0_evens_0 rfl ?_
  refine r_aload_n (pc := 2) (i := 0) C dX0_evens_2 rfl rfl ?_
  refine r_getI (pc := 3) C fd_X0_239 rfl dX0_evens_3 h (fun v1 h => ?_)
  refine r_icmplt (pc := 6) (tgt := 10) C dX0_evens_6 (by decide) h (fun h => ?_) (fun h => ?_)
  · refine r_iload_n (pc := 10) (i := 1) C dX0_evens_10 rfl rfl ?_
    refine r_iload_n (pc := 11) (i := 2) C dX0_evens_11 rfl rfl ?_
    refine r_icmpne (pc := 12) (tgt := 51) C dX0_evens_12 (by decide) h (fun h => ?_) (fun h => ?_)
    · refine r_iconst (pc := 51) (v := 0) C dX0_evens_51 (by decide) ?_
      refine r_istore (pc := 52) (i := 5) C dX0_evens_52 (by decide) ?_
      refine r_pick (lv' := [(0, rv B a0), (1, .int x1), (2, .int x2), (3, .int x3), (4, .int x4), (5, .int 0)]) [0, 1, 2, 3, 4, 5] rfl ?_
      refine wl_X0_evens_54 hrec hd hd2 C E (fun  σ15 h => ?_) _ _ _ h
      exact r_vret (pc := 125) C rfl dX0_evens_125 h E
    · refine r_aload_n (pc := 15) (i := 0) C dX0_evens_15 rfl rfl ?_
      refine r_iload (pc := 16) (i := 4) C dX0_evens_16 rfl ?_
      refine r_putI (pc := 18) C fd_X0_239 ft_X0_15 dX0_evens_18 h (fun σ16 h => ?_)
      refine r_iconst (pc := 21) (v := 0) C dX0_evens_21 (by decide) ?_
      refine r_istore (pc := 22) (i := 5) C dX0_evens_22 (by decide) ?_
      refine r_pick (lv' := [(0, rv B a0), (2, .int x2), (5, .int 0)]) [0, 2, 5] rfl ?_
      refine wl_X0_evens_24 hrec hd hd2 C E (fun  σ21 h => ?_) _ _ _ h
      exact r_vret (pc := 50) C rfl dX0_evens_50 h E
  · exact r_vret (pc := 9) C rfl dX0_evens_9 h E
theorem ts_X0_evens {F : Nat} {rec : MM → Nat → Int32 → Int32 → Int32 → Int32 → Option (MM)} {σ : MM} {a0 : Nat} {x1 : Int32} {x2 : Int32} {x3 : Int32} {x4 : Int32} {r : MM} (h : s_X0_evens F rec σ a0 x1 x2 x3 x4 = some r) : mT σ a0 = (0, 22) := by
  unfold s_X0_evens at h
  exact (r_ck h).1
def r_X0_evens (F : Nat) : Nat → MM → Nat → Int32 → Int32 → Int32 → Int32 → Option (MM)
  | 0 => fun _ _ _ _ _ _ => none
  | f + 1 => s_X0_evens F (r_X0_evens F f)
theorem wr_X0_evens {B F : Nat} : ∀ (f d : Nat), 1 * f + 2 ≤ d → ∀ (σ : MM) (a0 : Nat) (x1 : Int32) (x2 : Int32) (x3 : Int32) (x4 : Int32) (σ' : MM), r_X0_evens F f σ a0 x1 x2 x3 x4 = some σ' → xMA B yX0_evens cX0_evens 6 none d 0 0 [rv B a0, .int x1, .int x2, .int x3, .int x4] σ none σ' ∧ mT σ a0 = (0, 22) := by
  intro f
  induction f with
  | zero =>
    intro d hd σ a0 x1 x2 x3 x4 σ' h
    have h : none = some σ' := h
    cases h
  | succ f ih =>
    intro d hd σ a0 x1 x2 x3 x4 σ' h
    have h : s_X0_evens F (r_X0_evens F f) σ a0 x1 x2 x3 x4 = some σ' := h
    exact ⟨ws_X0_evens (dr := 1 * f + 2) (ih _ (Nat.le_refl _)) (by omega) (by omega) h, ts_X0_evens h⟩
def g_X0_evens (F : Nat) (σ : MM) (a0 : Nat) (x1 : Int32) (x2 : Int32) (x3 : Int32) (x4 : Int32) : Option (MM) := r_X0_evens F 64 σ a0 x1 x2 x3 x4
theorem w_X0_evens {B F d : Nat} {σ : MM} {a0 : Nat} {x1 : Int32} {x2 : Int32} {x3 : Int32} {x4 : Int32} {σf : MM} (hd : 66 ≤ d) (h : g_X0_evens F σ a0 x1 x2 x3 x4 = some σf) : xMA B yX0_evens cX0_evens 6 none d 0 0 [rv B a0, .int x1, .int x2, .int x3, .int x4] σ none σf := (wr_X0_evens 64 d hd _ _ _ _ _ _ _ h).1
theorem t_X0_evens {F : Nat} {σ : MM} {a0 : Nat} {x1 : Int32} {x2 : Int32} {x3 : Int32} {x4 : Int32} {r : MM} (h : g_X0_evens F σ a0 x1 x2 x3 x4 = some r) : mT σ a0 = (0, 22) := ts_X0_evens (rec := r_X0_evens F 63) h
theorem yd_X0_lack : xYd yX0_lack 0 := ⟨by decide +kernel, by decide +kernel, by decide +kernel⟩
theorem cs_X0_258_X0_lack : xCV RX0 258 yX0_lack cX0_lack 3 (some .int) 0 22 0 := ⟨by decide, by decide, _, rfl, yd_X0_lack, Or.inl ⟨rfl, lw_V q1130 q1132 qs36 q116 q1133⟩⟩
theorem yd_X0_takesLack : xYd yX0_takesLack 0 := ⟨by decide +kernel, by decide +kernel, by decide +kernel⟩
theorem cs_X0_261_X0_takesLack : xCV RX0 261 yX0_takesLack cX0_takesLack 5 none 0 22 0 := ⟨by decide, by decide, _, rfl, yd_X0_takesLack, Or.inl ⟨rfl, lw_V q1138 q1140 qs38 q116 q1141⟩⟩
def g_X0_even (F : Nat) (σ : MM) (a0 : Nat) (x1 : Int32) : Option (Int32 × MM) := if mT σ a0 = (0, 22) then (bq (g_X0_within F σ x1 100 101) fun v2 σ1 => jn (fun (σ3 : MM) => bq (g_X0_lack F σ3 a0) fun v6 σ5 => if x1 = 100 then (some (v6, σ5)) else (if 6 < v6 then (some ((-3), σ5)) else (jn (fun (σ7 : MM) => (g_X0_takesLack F σ7 a0).bind fun σ9 => (pI σ9 a0 0 22 15 268435456).bind fun σ10 => (g_X0_evens F σ10 a0 0 v6 0 0).bind fun σ11 => if x1 = 101 then ((gI σ11 a0 0 22 15).bind fun v14 => some (v14, σ11)) else ((gP σ11 a0 0 22 14).bind fun p12 => (aI σ11 p12 20 x1).bind fun v13 => some (v13, σ11))) (fun k8 => if x1 < 6 then (if x1 < v6 then (k8 σ5) else (some ((-4), σ5))) else (k8 σ5))))) (fun k4 => if v2 = 0 then (bq (g_X0_in F σ1 x1 6) fun v16 σ15 => if v16 = 0 then (some ((-1), σ15)) else (k4 σ15)) else (k4 σ1))) else none
theorem w_X0_even {B F : Nat} {d : Nat} {σ : MM} {a0 : Nat} {x1 : Int32} {rf : Int32} {σf : MM} (hd : 67 ≤ d) (h : g_X0_even F σ a0 x1 = some (rf, σf)) : xMA B yX0_even cX0_even 3 (some .int) d 0 0 [rv B a0, .int x1] σ (some (.int rf)) σf := by
  refine xMA.of (by decide +kernel) (Nat.le_of_ble_eq_true rfl) (cat_rv (cat_int cat_nil)) (fun G C E => ?_)
  unfold g_X0_even at h
  obtain ⟨-, h⟩ := r_ck h
  refine r_iload_n (pc := 0) (i := 1) C dX0_even_0 rfl rfl ?_
  refine r_bipush (pc := 1) (v := 100) C dX0_even_1 (by decide) ?_
  refine r_bipush (pc := 3) (v := 101) C dX0_even_3 (by decide) ?_
  refine r_callSI (pc := 5) (As := [.int x1, .int 100, .int 101]) (st := []) C cs_X0_127_X0_within h (fun _ _ e => w_X0_within (Nat.le_refl 0) e) (Nat.le_trans (Nat.le_of_ble_eq_true rfl) hd) (Nat.le_of_ble_eq_true rfl) dX0_even_5 (fun v2 σ1 h => ?_)
  refine r_jn (fun k9 => ∀  (σ3 : MM), k9 σ3 = some (rf, σf) → xV B G 0 0 σ3 22 [(0, rv B a0), (1, .int x1)] []) h (fun  σ3 h => ?_) (fun k4 hk4 h => ?_)
  · refine r_aload_n (pc := 22) (i := 0) C dX0_even_22 rfl rfl ?_
    refine r_callVI (pc := 23) (As := []) (st := []) C cs_X0_258_X0_lack h (fun _ _ e => w_X0_lack (Nat.le_refl 2) e) (fun _ _ e => t_X0_lack e) (Nat.le_trans (Nat.le_of_ble_eq_true rfl) hd) (Nat.le_of_ble_eq_true rfl) dX0_even_23 (fun v6 σ5 h => ?_)
    refine r_istore_n (pc := 26) (i := 2) C dX0_even_26 rfl (by decide) ?_
    refine r_iload_n (pc := 27) (i := 1) C dX0_even_27 rfl rfl ?_
    refine r_bipush (pc := 28) (v := 100) C dX0_even_28 (by decide) ?_
    refine r_icmpne (pc := 30) (tgt := 35) C dX0_even_30 (by decide) h (fun h => ?_) (fun h => ?_)
    · refine r_iload_n (pc := 35) (i := 2) C dX0_even_35 rfl rfl ?_
      refine r_bipush (pc := 36) (v := 6) C dX0_even_36 (by decide) ?_
      refine r_icmple (pc := 38) (tgt := 44) C dX0_even_38 (by decide) h (fun h => ?_) (fun h => ?_)
      · refine r_iload_n (pc := 44) (i := 1) C dX0_even_44 rfl rfl ?_
        refine r_bipush (pc := 45) (v := 6) C dX0_even_45 (by decide) ?_
        refine r_jn (fun k9 => ∀  (σ7 : MM), k9 σ7 = some (rf, σf) → xV B G 0 0 σ7 58 [(0, rv B a0), (1, .int x1), (2, .int v6)] []) h (fun  σ7 h => ?_) (fun k8 hk8 h => ?_)
        · refine r_aload_n (pc := 58) (i := 0) C dX0_even_58 rfl rfl ?_
          refine r_callVV (pc := 59) (As := []) (st := []) C cs_X0_261_X0_takesLack h (fun _ e => w_X0_takesLack (Nat.le_refl 2) e) (fun _ e => t_X0_takesLack e) (Nat.le_trans (Nat.le_of_ble_eq_true rfl) hd) (Nat.le_of_ble_eq_true rfl) dX0_even_59 (fun σ9 h => ?_)
          refine r_aload_n (pc := 62) (i := 0) C dX0_even_62 rfl rfl ?_
          refine r_ldc (pc := 63) C q1125 dX0_even_63 ?_
          refine r_putI (pc := 65) C fd_X0_239 ft_X0_15 dX0_even_65 h (fun σ10 h => ?_)
          refine r_aload_n (pc := 68) (i := 0) C dX0_even_68 rfl rfl ?_
          refine r_iconst (pc := 69) (v := 0) C dX0_even_69 (by decide) ?_
          refine r_iload_n (pc := 70) (i := 2) C dX0_even_70 rfl rfl ?_
          refine r_iconst (pc := 71) (v := 0) C dX0_even_71 (by decide) ?_
          refine r_iconst (pc := 72) (v := 0) C dX0_even_72 (by decide) ?_
          refine r_callVV (pc := 73) (As := [.int 0, .int v6, .int 0, .int 0]) (st := []) C cs_X0_254_X0_evens h (fun _ e => w_X0_evens (Nat.le_refl 66) e) (fun _ e => t_X0_evens e) (Nat.le_trans (Nat.le_of_ble_eq_true rfl) hd) (Nat.le_of_ble_eq_true rfl) dX0_even_73 (fun σ11 h => ?_)
          refine r_iload_n (pc := 76) (i := 1) C dX0_even_76 rfl rfl ?_
          refine r_bipush (pc := 77) (v := 101) C dX0_even_77 (by decide) ?_
          refine r_icmpne (pc := 79) (tgt := 89) C dX0_even_79 (by decide) h (fun h => ?_) (fun h => ?_)
          · refine r_aload_n (pc := 89) (i := 0) C dX0_even_89 rfl rfl ?_
            refine r_getP (pc := 90) C fd_X0_97 rfl dX0_even_90 h (fun p12 h => ?_)
            refine r_iload_n (pc := 93) (i := 1) C dX0_even_93 rfl rfl ?_
            refine r_iald (pc := 94) C dX0_even_94 h (fun v13 h => ?_)
            exact r_iret (pc := 95) C rfl dX0_even_95 h E
          · refine r_aload_n (pc := 82) (i := 0) C dX0_even_82 rfl rfl ?_
            refine r_getI (pc := 83) C fd_X0_239 rfl dX0_even_83 h (fun v14 h => ?_)
            refine r_goto (pc := 86) (tgt := 95) C dX0_even_86 (by decide) ?_
            exact r_iret (pc := 95) C rfl dX0_even_95 h E
        · refine r_icmpge (pc := 47) (tgt := 58) C dX0_even_47 (by decide) h (fun h => ?_) (fun h => ?_)
          · refine r_pick (lv' := [(0, rv B a0), (1, .int x1), (2, .int v6)]) [0, 1, 2] rfl ?_
            exact hk8 _ h
          · refine r_iload_n (pc := 50) (i := 1) C dX0_even_50 rfl rfl ?_
            refine r_iload_n (pc := 51) (i := 2) C dX0_even_51 rfl rfl ?_
            refine r_icmplt (pc := 52) (tgt := 58) C dX0_even_52 (by decide) h (fun h => ?_) (fun h => ?_)
            · refine r_pick (lv' := [(0, rv B a0), (1, .int x1), (2, .int v6)]) [0, 1, 2] rfl ?_
              exact hk8 _ h
            · refine r_bipush (pc := 55) (v := (-4)) C dX0_even_55 (by decide) ?_
              exact r_iret (pc := 57) C rfl dX0_even_57 h E
      · refine r_bipush (pc := 41) (v := (-3)) C dX0_even_41 (by decide) ?_
        exact r_iret (pc := 43) C rfl dX0_even_43 h E
    · refine r_iload_n (pc := 33) (i := 2) C dX0_even_33 rfl rfl ?_
      exact r_iret (pc := 34) C rfl dX0_even_34 h E
  · refine r_ifne (pc := 8) (tgt := 22) C dX0_even_8 (by decide) h (fun h => ?_) (fun h => ?_)
    · refine r_pick (lv' := [(0, rv B a0), (1, .int x1)]) [0, 1] rfl ?_
      exact hk4 _ h
    · refine r_iload_n (pc := 11) (i := 1) C dX0_even_11 rfl rfl ?_
      refine r_bipush (pc := 12) (v := 6) C dX0_even_12 (by decide) ?_
      refine r_callSI (pc := 14) (As := [.int x1, .int 6]) (st := []) C cs_X0_15_X0_in h (fun _ _ e => w_X0_in (Nat.le_refl 0) e) (Nat.le_trans (Nat.le_of_ble_eq_true rfl) hd) (Nat.le_of_ble_eq_true rfl) dX0_even_14 (fun v16 σ15 h => ?_)
      refine r_ifne (pc := 17) (tgt := 22) C dX0_even_17 (by decide) h (fun h => ?_) (fun h => ?_)
      · refine r_pick (lv' := [(0, rv B a0), (1, .int x1)]) [0, 1] rfl ?_
        exact hk4 _ h
      · refine r_iconst (pc := 20) (v := (-1)) C dX0_even_20 (by decide) ?_
        exact r_iret (pc := 21) C rfl dX0_even_21 h E
theorem t_X0_even {F : Nat} {σ : MM} {a0 : Nat} {x1 : Int32} {r : Int32 × MM} (h : g_X0_even F σ a0 x1 = some r) : mT σ a0 = (0, 22) := by
  unfold g_X0_even at h
  exact (r_ck h).1
theorem fd_X0_111 : xFg RX0 111 0 22 19 := ⟨_, rfl, rfl, by decide, by decide, in_X0, Or.inl q334⟩
theorem ft_X0_19 : xFt 0 19 (.array .int) true := ⟨_, rfl, by decide +kernel, rfl, rfl⟩
theorem fd_X0_114 : xFg RX0 114 0 22 20 := ⟨_, rfl, rfl, by decide, by decide, in_X0, Or.inl q335⟩
theorem ft_X0_20 : xFt 0 20 (.array .int) true := ⟨_, rfl, by decide +kernel, rfl, rfl⟩
def l_X0_takesDebts_21 (K : Int32 → MM → Option (Int32 × MM)) (F : Nat) (a0 : Nat) (x2 : Int32) (x3 : Int32) : Nat → Int32 → Int32 → MM → Option (Int32 × MM)
  | 0, _, _, _ => none
  | f + 1, z1, z4, σ => (gP σ a0 0 22 4).bind fun p1 => (gP σ p1 2 16 0).bind fun p2 => (gP σ p2 3 1 0).bind fun p3 => (aP σ p3 22 x2).bind fun p4 => (aI σ p4 20 x3).bind fun v5 => if z4 < v5 then ((gP σ a0 0 22 19).bind fun p6 => (sI σ p6 z1 x2).bind fun σ7 => (gP σ7 a0 0 22 20).bind fun p8 => (sI σ7 p8 z1 x3).bind fun σ9 => l_X0_takesDebts_21 K F a0 x2 x3 f ((z1 + 1)) ((z4 + 1)) σ9) else (K z1 σ)
def l_X0_takesDebts_12 (K : Int32 → MM → Option (Int32 × MM)) (F : Nat) (a0 : Nat) (x2 : Int32) : Nat → Int32 → Int32 → MM → Option (Int32 × MM)
  | 0, _, _, _ => none
  | f + 1, z1, z3, σ => if z3 < 10 then (l_X0_takesDebts_21 (fun (r1_11 : Int32) (σ10 : MM) => l_X0_takesDebts_12 K F a0 x2 f r1_11 ((z3 + 1)) σ10) F a0 x2 z3 F z1 0 σ) else (K z1 σ)
def l_X0_takesDebts_4 (K : Int32 → MM → Option (Int32 × MM)) (F : Nat) (a0 : Nat) : Nat → Int32 → Int32 → MM → Option (Int32 × MM)
  | 0, _, _, _ => none
  | f + 1, z1, z2, σ => if z2 < 10 then (l_X0_takesDebts_12 (fun (r1_13 : Int32) (σ12 : MM) => l_X0_takesDebts_4 K F a0 f r1_13 ((z2 + 1)) σ12) F a0 z2 F z1 0 σ) else (K z1 σ)
def g_X0_takesDebts (F : Nat) (σ : MM) (a0 : Nat) : Option (Int32 × MM) := if mT σ a0 = (0, 22) then (l_X0_takesDebts_4 (fun (r1_15 : Int32) (σ14 : MM) => some (r1_15, σ14)) F a0 F 0 0 σ) else none
theorem wl_X0_takesDebts_21 {B : Nat} {G : XG} {d : Nat} {rf : Int32} {σf : MM} (hd : 0 ≤ d) (C : xC B G yX0_takesDebts cX0_takesDebts 5 (some .int) d 0 0) (E : xEnd B G (some (.int rf)) σf 0 0) {K : Int32 → MM → Option (Int32 × MM)} {F : Nat} {a0 : Nat} {x2 : Int32} {x3 : Int32} (hK : ∀ (q1 : Int32) (σ : MM), K q1 σ = some (rf, σf) → xV B G 0 0 σ 63 [(0, rv B a0), (1, .int q1), (2, .int x2), (3, .int x3)] []) : ∀ (f : Nat) (z1 : Int32) (z4 : Int32) (σ : MM), l_X0_takesDebts_21 K F a0 x2 x3 f z1 z4 σ = some (rf, σf) → xV B G 0 0 σ 21 [(0, rv B a0), (1, .int z1), (2, .int x2), (3, .int x3), (4, .int z4)] [] := by
  intro f
  induction f with
  | zero =>
    intro z1 z4 σ h
    have h : none = some (rf, σf) := h
    cases h
  | succ f ih =>
    intro z1 z4 σ h
    rw [l_X0_takesDebts_21.eq_2] at h
    refine r_iload (pc := 21) (i := 4) C dX0_takesDebts_21 rfl ?_
    refine r_aload_n (pc := 23) (i := 0) C dX0_takesDebts_23 rfl rfl ?_
    refine r_getP (pc := 24) C fd_X0_66 rfl dX0_takesDebts_24 h (fun p1 h => ?_)
    refine r_getP (pc := 27) C fd_X0_131 rfl dX0_takesDebts_27 h (fun p2 h => ?_)
    refine r_getP (pc := 30) C fd_X0_134 rfl dX0_takesDebts_30 h (fun p3 h => ?_)
    refine r_iload_n (pc := 33) (i := 2) C dX0_takesDebts_33 rfl rfl ?_
    refine r_aald (pc := 34) 0 (by decide) C dX0_takesDebts_34 h (fun p4 h => ?_)
    refine r_iload_n (pc := 35) (i := 3) C dX0_takesDebts_35 rfl rfl ?_
    refine r_iald (pc := 36) C dX0_takesDebts_36 h (fun v5 h => ?_)
    refine r_icmpge (pc := 37) (tgt := 63) C dX0_takesDebts_37 (by decide) h (fun h => ?_) (fun h => ?_)
    · refine r_pick (lv' := [(0, rv B a0), (1, .int z1), (2, .int x2), (3, .int x3)]) [0, 1, 2, 3] rfl ?_
      exact hK _ _ h
    · refine r_aload_n (pc := 40) (i := 0) C dX0_takesDebts_40 rfl rfl ?_
      refine r_getP (pc := 41) C fd_X0_111 rfl dX0_takesDebts_41 h (fun p6 h => ?_)
      refine r_iload_n (pc := 44) (i := 1) C dX0_takesDebts_44 rfl rfl ?_
      refine r_iload_n (pc := 45) (i := 2) C dX0_takesDebts_45 rfl rfl ?_
      refine r_iast (pc := 46) C dX0_takesDebts_46 h (fun σ7 h => ?_)
      refine r_aload_n (pc := 47) (i := 0) C dX0_takesDebts_47 rfl rfl ?_
      refine r_getP (pc := 48) C fd_X0_114 rfl dX0_takesDebts_48 h (fun p8 h => ?_)
      refine r_iload_n (pc := 51) (i := 1) C dX0_takesDebts_51 rfl rfl ?_
      refine r_iload_n (pc := 52) (i := 3) C dX0_takesDebts_52 rfl rfl ?_
      refine r_iast (pc := 53) C dX0_takesDebts_53 h (fun σ9 h => ?_)
      refine r_iinc (pc := 54) (i := 1) (v := (z1 + 1)) C dX0_takesDebts_54 rfl rfl (by decide) ?_
      refine r_iinc (pc := 57) (i := 4) (v := (z4 + 1)) C dX0_takesDebts_57 rfl rfl (by decide) ?_
      refine r_goto (pc := 60) (tgt := 21) C dX0_takesDebts_60 (by decide) ?_
      refine r_pick (lv' := [(0, rv B a0), (1, .int (z1 + 1)), (2, .int x2), (3, .int x3), (4, .int (z4 + 1))]) [0, 1, 2, 3, 4] rfl ?_
      exact ih _ _ _ h
theorem wl_X0_takesDebts_12 {B : Nat} {G : XG} {d : Nat} {rf : Int32} {σf : MM} (hd : 0 ≤ d) (C : xC B G yX0_takesDebts cX0_takesDebts 5 (some .int) d 0 0) (E : xEnd B G (some (.int rf)) σf 0 0) {K : Int32 → MM → Option (Int32 × MM)} {F : Nat} {a0 : Nat} {x2 : Int32} (hK : ∀ (q1 : Int32) (σ : MM), K q1 σ = some (rf, σf) → xV B G 0 0 σ 69 [(0, rv B a0), (1, .int q1), (2, .int x2)] []) : ∀ (f : Nat) (z1 : Int32) (z3 : Int32) (σ : MM), l_X0_takesDebts_12 K F a0 x2 f z1 z3 σ = some (rf, σf) → xV B G 0 0 σ 12 [(0, rv B a0), (1, .int z1), (2, .int x2), (3, .int z3)] [] := by
  intro f
  induction f with
  | zero =>
    intro z1 z3 σ h
    have h : none = some (rf, σf) := h
    cases h
  | succ f ih =>
    intro z1 z3 σ h
    rw [l_X0_takesDebts_12.eq_2] at h
    refine r_iload_n (pc := 12) (i := 3) C dX0_takesDebts_12 rfl rfl ?_
    refine r_bipush (pc := 13) (v := 10) C dX0_takesDebts_13 (by decide) ?_
    refine r_icmpge (pc := 15) (tgt := 69) C dX0_takesDebts_15 (by decide) h (fun h => ?_) (fun h => ?_)
    · refine r_pick (lv' := [(0, rv B a0), (1, .int z1), (2, .int x2)]) [0, 1, 2] rfl ?_
      exact hK _ _ h
    · refine r_iconst (pc := 18) (v := 0) C dX0_takesDebts_18 (by decide) ?_
      refine r_istore (pc := 19) (i := 4) C dX0_takesDebts_19 (by decide) ?_
      refine r_pick (lv' := [(0, rv B a0), (1, .int z1), (2, .int x2), (3, .int z3), (4, .int 0)]) [0, 1, 2, 3, 4] rfl ?_
      refine wl_X0_takesDebts_21 hd C E (fun r1_11 σ10 h => ?_) _ _ _ _ h
      refine r_iinc (pc := 63) (i := 3) (v := (z3 + 1)) C dX0_takesDebts_63 rfl rfl (by decide) ?_
      refine r_goto (pc := 66) (tgt := 12) C dX0_takesDebts_66 (by decide) ?_
      refine r_pick (lv' := [(0, rv B a0), (1, .int r1_11), (2, .int x2), (3, .int (z3 + 1))]) [0, 1, 2, 3] rfl ?_
      exact ih _ _ _ h
theorem wl_X0_takesDebts_4 {B : Nat} {G : XG} {d : Nat} {rf : Int32} {σf : MM} (hd : 0 ≤ d) (C : xC B G yX0_takesDebts cX0_takesDebts 5 (some .int) d 0 0) (E : xEnd B G (some (.int rf)) σf 0 0) {K : Int32 → MM → Option (Int32 × MM)} {F : Nat} {a0 : Nat} (hK : ∀ (q1 : Int32) (σ : MM), K q1 σ = some (rf, σf) → xV B G 0 0 σ 75 [(1, .int q1)] []) : ∀ (f : Nat) (z1 : Int32) (z2 : Int32) (σ : MM), l_X0_takesDebts_4 K F a0 f z1 z2 σ = some (rf, σf) → xV B G 0 0 σ 4 [(0, rv B a0), (1, .int z1), (2, .int z2)] [] := by
  intro f
  induction f with
  | zero =>
    intro z1 z2 σ h
    have h : none = some (rf, σf) := h
    cases h
  | succ f ih =>
    intro z1 z2 σ h
    rw [l_X0_takesDebts_4.eq_2] at h
    refine r_iload_n (pc := 4) (i := 2) C dX0_takesDebts_4 rfl rfl ?_
    refine r_bipush (pc := 5) (v := 10) C dX0_takesDebts_5 (by decide) ?_
    refine r_icmpge (pc := 7) (tgt := 75) C dX0_takesDebts_7 (by decide) h (fun h => ?_) (fun h => ?_)
    · refine r_pick (lv' := [(1, .int z1)]) [1] rfl ?_
      exact hK _ _ h
    · refine r_iconst (pc := 10) (v := 0) C dX0_takesDebts_10 (by decide) ?_
      refine r_istore_n (pc := 11) (i := 3) C dX0_takesDebts_11 rfl (by decide) ?_
      refine r_pick (lv' := [(0, rv B a0), (1, .int z1), (2, .int z2), (3, .int 0)]) [0, 1, 2, 3] rfl ?_
      refine wl_X0_takesDebts_12 hd C E (fun r1_13 σ12 h => ?_) _ _ _ _ h
      refine r_iinc (pc := 69) (i := 2) (v := (z2 + 1)) C dX0_takesDebts_69 rfl rfl (by decide) ?_
      refine r_goto (pc := 72) (tgt := 4) C dX0_takesDebts_72 (by decide) ?_
      refine r_pick (lv' := [(0, rv B a0), (1, .int r1_13), (2, .int (z2 + 1))]) [0, 1, 2] rfl ?_
      exact ih _ _ _ h
theorem w_X0_takesDebts {B F : Nat} {d : Nat} {σ : MM} {a0 : Nat} {rf : Int32} {σf : MM} (hd : 0 ≤ d) (h : g_X0_takesDebts F σ a0 = some (rf, σf)) : xMA B yX0_takesDebts cX0_takesDebts 5 (some .int) d 0 0 [rv B a0] σ (some (.int rf)) σf := by
  refine xMA.of (by decide +kernel) (Nat.le_of_ble_eq_true rfl) (cat_rv cat_nil) (fun G C E => ?_)
  unfold g_X0_takesDebts at h
  obtain ⟨-, h⟩ := r_ck h
  refine r_iconst (pc := 0) (v := 0) C dX0_takesDebts_0 (by decide) ?_
  refine r_istore_n (pc := 1) (i := 1) C dX0_takesDebts_1 rfl (by decide) ?_
  refine r_iconst (pc := 2) (v := 0) C dX0_takesDebts_2 (by decide) ?_
  refine r_istore_n (pc := 3) (i := 2) C dX0_takesDebts_3 rfl (by decide) ?_
  refine r_pick (lv' := [(0, rv B a0), (1, .int 0), (2, .int 0)]) [0, 1, 2] rfl ?_
  refine wl_X0_takesDebts_4 hd C E (fun r1_15 σ14 h => ?_) _ _ _ _ h
  refine r_iload_n (pc := 75) (i := 1) C dX0_takesDebts_75 rfl rfl ?_
  exact r_iret (pc := 76) C rfl dX0_takesDebts_76 h E
theorem t_X0_takesDebts {F : Nat} {σ : MM} {a0 : Nat} {r : Int32 × MM} (h : g_X0_takesDebts F σ a0 = some r) : mT σ a0 = (0, 22) := by
  unfold g_X0_takesDebts at h
  exact (r_ck h).1
def l_X0_isEvenBy_14 (K : Int32 → MM → Option (Int32 × MM)) (F : Nat) (a0 : Nat) (x1 : Int32) (x2 : Int32) (x3 : Int32) : Nat → Int32 → Int32 → MM → Option (Int32 × MM)
  | 0, _, _, _ => none
  | f + 1, z4, z5, σ => if z5 < x2 then ((gP σ a0 0 22 20).bind fun p1 => (aI σ p1 20 z5).bind fun v2 => jn (fun (w4 : Int32) (σ3 : MM) => bq (g_X0_has F σ3 x1 z5) fun v7 σ6 => jn (fun (w9 : Int32) (σ8 : MM) => l_X0_isEvenBy_14 K F a0 x1 x2 x3 f ((z4 + (w4 * w9))) ((z5 + 1)) σ8) (fun k10 => if v7 = 0 then (k10 1 σ6) else (k10 ((-1)) σ6))) (fun k5 => if v2 = x3 then (k5 1 σ) else ((gP σ a0 0 22 19).bind fun p11 => (aI σ p11 20 z5).bind fun v12 => if v12 = x3 then (k5 ((-1)) σ) else (k5 0 σ)))) else (K z4 σ)
def l_X0_isEvenBy_2 (K : MM → Option (Int32 × MM)) (F : Nat) (a0 : Nat) (x1 : Int32) (x2 : Int32) : Nat → Int32 → MM → Option (Int32 × MM)
  | 0, _, _ => none
  | f + 1, z3, σ => if z3 < 10 then (l_X0_isEvenBy_14 (fun (r4_14 : Int32) (σ13 : MM) => if r4_14 = 0 then (l_X0_isEvenBy_2 K F a0 x1 x2 f ((z3 + 1)) σ13) else (some (0, σ13))) F a0 x1 x2 z3 F 0 0 σ) else (K σ)
def g_X0_isEvenBy (F : Nat) (σ : MM) (a0 : Nat) (x1 : Int32) (x2 : Int32) : Option (Int32 × MM) := if mT σ a0 = (0, 22) then (l_X0_isEvenBy_2 (fun (σ15 : MM) => some (1, σ15)) F a0 x1 x2 F 0 σ) else none
theorem wl_X0_isEvenBy_14 {B : Nat} {G : XG} {d : Nat} {rf : Int32} {σf : MM} (hd : 1 ≤ d) (C : xC B G yX0_isEvenBy cX0_isEvenBy 6 (some .boolean) d 0 0) (E : xEnd B G (some (.int rf)) σf 0 0) {K : Int32 → MM → Option (Int32 × MM)} {F : Nat} {a0 : Nat} {x1 : Int32} {x2 : Int32} {x3 : Int32} (hK : ∀ (q4 : Int32) (σ : MM), K q4 σ = some (rf, σf) → xV B G 0 0 σ 77 [(0, rv B a0), (1, .int x1), (2, .int x2), (3, .int x3), (4, .int q4)] []) : ∀ (f : Nat) (z4 : Int32) (z5 : Int32) (σ : MM), l_X0_isEvenBy_14 K F a0 x1 x2 x3 f z4 z5 σ = some (rf, σf) → xV B G 0 0 σ 14 [(0, rv B a0), (1, .int x1), (2, .int x2), (3, .int x3), (4, .int z4), (5, .int z5)] [] := by
  intro f
  induction f with
  | zero =>
    intro z4 z5 σ h
    have h : none = some (rf, σf) := h
    cases h
  | succ f ih =>
    intro z4 z5 σ h
    rw [l_X0_isEvenBy_14.eq_2] at h
    refine r_iload (pc := 14) (i := 5) C dX0_isEvenBy_14 rfl ?_
    refine r_iload_n (pc := 16) (i := 2) C dX0_isEvenBy_16 rfl rfl ?_
    refine r_icmpge (pc := 17) (tgt := 77) C dX0_isEvenBy_17 (by decide) h (fun h => ?_) (fun h => ?_)
    · refine r_pick (lv' := [(0, rv B a0), (1, .int x1), (2, .int x2), (3, .int x3), (4, .int z4)]) [0, 1, 2, 3, 4] rfl ?_
      exact hK _ _ h
    · refine r_iload (pc := 20) (i := 4) C dX0_isEvenBy_20 rfl ?_
      refine r_aload_n (pc := 22) (i := 0) C dX0_isEvenBy_22 rfl rfl ?_
      refine r_getP (pc := 23) C fd_X0_114 rfl dX0_isEvenBy_23 h (fun p1 h => ?_)
      refine r_iload (pc := 26) (i := 5) C dX0_isEvenBy_26 rfl ?_
      refine r_iald (pc := 28) C dX0_isEvenBy_28 h (fun v2 h => ?_)
      refine r_iload_n (pc := 29) (i := 3) C dX0_isEvenBy_29 rfl rfl ?_
      refine r_jn (fun k9 => ∀ (w4 : Int32) (σ3 : MM), k9 w4 σ3 = some (rf, σf) → xV B G 0 0 σ3 53 [(0, rv B a0), (1, .int x1), (2, .int x2), (3, .int x3), (5, .int z5)] [.int w4, .int z4]) h (fun w4 σ3 h => ?_) (fun k5 hk5 h => ?_)
      · refine r_iload_n (pc := 53) (i := 1) C dX0_isEvenBy_53 rfl rfl ?_
        refine r_iload (pc := 54) (i := 5) C dX0_isEvenBy_54 rfl ?_
        refine r_callSI (pc := 56) (As := [.int x1, .int z5]) (st := [.int w4, .int z4]) C cs_X0_23_X0_has h (fun _ _ e => w_X0_has (Nat.le_refl 0) e) (Nat.le_trans (Nat.le_of_ble_eq_true rfl) hd) (Nat.le_of_ble_eq_true rfl) dX0_isEvenBy_56 (fun v7 σ6 h => ?_)
        refine r_jn (fun k9 => ∀ (w9 : Int32) (σ8 : MM), k9 w9 σ8 = some (rf, σf) → xV B G 0 0 σ8 67 [(0, rv B a0), (1, .int x1), (2, .int x2), (3, .int x3), (5, .int z5)] [.int w9, .int w4, .int z4]) h (fun w9 σ8 h => ?_) (fun k10 hk10 h => ?_)
        · refine r_imul (pc := 67) C dX0_isEvenBy_67 ?_
          refine r_iadd (pc := 68) C dX0_isEvenBy_68 ?_
          refine r_istore (pc := 69) (i := 4) C dX0_isEvenBy_69 (by decide) ?_
          refine r_iinc (pc := 71) (i := 5) (v := (z5 + 1)) C dX0_isEvenBy_71 rfl rfl (by decide) ?_
          refine r_goto (pc := 74) (tgt := 14) C dX0_isEvenBy_74 (by decide) ?_
          refine r_pick (lv' := [(0, rv B a0), (1, .int x1), (2, .int x2), (3, .int x3), (4, .int (z4 + (w4 * w9))), (5, .int (z5 + 1))]) [0, 1, 2, 3, 4, 5] rfl ?_
          exact ih _ _ _ h
        · refine r_ifeq (pc := 59) (tgt := 66) C dX0_isEvenBy_59 (by decide) h (fun h => ?_) (fun h => ?_)
          · refine r_iconst (pc := 66) (v := 1) C dX0_isEvenBy_66 (by decide) ?_
            refine r_pick (lv' := [(0, rv B a0), (1, .int x1), (2, .int x2), (3, .int x3), (5, .int z5)]) [0, 1, 2, 3, 5] rfl ?_
            exact hk10 _ _ h
          · refine r_iconst (pc := 62) (v := (-1)) C dX0_isEvenBy_62 (by decide) ?_
            refine r_goto (pc := 63) (tgt := 67) C dX0_isEvenBy_63 (by decide) ?_
            refine r_pick (lv' := [(0, rv B a0), (1, .int x1), (2, .int x2), (3, .int x3), (5, .int z5)]) [0, 1, 2, 3, 5] rfl ?_
            exact hk10 _ _ h
      · refine r_icmpne (pc := 30) (tgt := 37) C dX0_isEvenBy_30 (by decide) h (fun h => ?_) (fun h => ?_)
        · refine r_aload_n (pc := 37) (i := 0) C dX0_isEvenBy_37 rfl rfl ?_
          refine r_getP (pc := 38) C fd_X0_111 rfl dX0_isEvenBy_38 h (fun p11 h => ?_)
          refine r_iload (pc := 41) (i := 5) C dX0_isEvenBy_41 rfl ?_
          refine r_iald (pc := 43) C dX0_isEvenBy_43 h (fun v12 h => ?_)
          refine r_iload_n (pc := 44) (i := 3) C dX0_isEvenBy_44 rfl rfl ?_
          refine r_icmpne (pc := 45) (tgt := 52) C dX0_isEvenBy_45 (by decide) h (fun h => ?_) (fun h => ?_)
          · refine r_iconst (pc := 52) (v := 0) C dX0_isEvenBy_52 (by decide) ?_
            refine r_pick (lv' := [(0, rv B a0), (1, .int x1), (2, .int x2), (3, .int x3), (5, .int z5)]) [0, 1, 2, 3, 5] rfl ?_
            exact hk5 _ _ h
          · refine r_iconst (pc := 48) (v := (-1)) C dX0_isEvenBy_48 (by decide) ?_
            refine r_goto (pc := 49) (tgt := 53) C dX0_isEvenBy_49 (by decide) ?_
            refine r_pick (lv' := [(0, rv B a0), (1, .int x1), (2, .int x2), (3, .int x3), (5, .int z5)]) [0, 1, 2, 3, 5] rfl ?_
            exact hk5 _ _ h
        · refine r_iconst (pc := 33) (v := 1) C dX0_isEvenBy_33 (by decide) ?_
          refine r_goto (pc := 34) (tgt := 53) C dX0_isEvenBy_34 (by decide) ?_
          refine r_pick (lv' := [(0, rv B a0), (1, .int x1), (2, .int x2), (3, .int x3), (5, .int z5)]) [0, 1, 2, 3, 5] rfl ?_
          exact hk5 _ _ h
theorem wl_X0_isEvenBy_2 {B : Nat} {G : XG} {d : Nat} {rf : Int32} {σf : MM} (hd : 1 ≤ d) (C : xC B G yX0_isEvenBy cX0_isEvenBy 6 (some .boolean) d 0 0) (E : xEnd B G (some (.int rf)) σf 0 0) {K : MM → Option (Int32 × MM)} {F : Nat} {a0 : Nat} {x1 : Int32} {x2 : Int32} (hK : ∀ (σ : MM), K σ = some (rf, σf) → xV B G 0 0 σ 90 [] []) : ∀ (f : Nat) (z3 : Int32) (σ : MM), l_X0_isEvenBy_2 K F a0 x1 x2 f z3 σ = some (rf, σf) → xV B G 0 0 σ 2 [(0, rv B a0), (1, .int x1), (2, .int x2), (3, .int z3)] [] := by
  intro f
  induction f with
  | zero =>
    intro z3 σ h
    have h : none = some (rf, σf) := h
    cases h
  | succ f ih =>
    intro z3 σ h
    rw [l_X0_isEvenBy_2.eq_2] at h
    refine r_iload_n (pc := 2) (i := 3) C dX0_isEvenBy_2 rfl rfl ?_
    refine r_bipush (pc := 3) (v := 10) C dX0_isEvenBy_3 (by decide) ?_
    refine r_icmpge (pc := 5) (tgt := 90) C dX0_isEvenBy_5 (by decide) h (fun h => ?_) (fun h => ?_)
    · refine r_pick (lv' := []) [] rfl ?_
      exact hK _ h
    · refine r_iconst (pc := 8) (v := 0) C dX0_isEvenBy_8 (by decide) ?_
      refine r_istore (pc := 9) (i := 4) C dX0_isEvenBy_9 (by decide) ?_
      refine r_iconst (pc := 11) (v := 0) C dX0_isEvenBy_11 (by decide) ?_
      refine r_istore (pc := 12) (i := 5) C dX0_isEvenBy_12 (by decide) ?_
      refine r_pick (lv' := [(0, rv B a0), (1, .int x1), (2, .int x2), (3, .int z3), (4, .int 0), (5, .int 0)]) [0, 1, 2, 3, 4, 5] rfl ?_
      refine wl_X0_isEvenBy_14 hd C E (fun r4_14 σ13 h => ?_) _ _ _ _ h
      refine r_iload (pc := 77) (i := 4) C dX0_isEvenBy_77 rfl ?_
      refine r_ifeq (pc := 79) (tgt := 84) C dX0_isEvenBy_79 (by decide) h (fun h => ?_) (fun h => ?_)
      · refine r_iinc (pc := 84) (i := 3) (v := (z3 + 1)) C dX0_isEvenBy_84 rfl rfl (by decide) ?_
        refine r_goto (pc := 87) (tgt := 2) C dX0_isEvenBy_87 (by decide) ?_
        refine r_pick (lv' := [(0, rv B a0), (1, .int x1), (2, .int x2), (3, .int (z3 + 1))]) [0, 1, 2, 3] rfl ?_
        exact ih _ _ h
      · refine r_iconst (pc := 82) (v := 0) C dX0_isEvenBy_82 (by decide) ?_
        exact r_zretL (pc := 83) C rfl dX0_isEvenBy_83 (Or.inl rfl) h E
theorem w_X0_isEvenBy {B F : Nat} {d : Nat} {σ : MM} {a0 : Nat} {x1 : Int32} {x2 : Int32} {rf : Int32} {σf : MM} (hd : 1 ≤ d) (h : g_X0_isEvenBy F σ a0 x1 x2 = some (rf, σf)) : xMA B yX0_isEvenBy cX0_isEvenBy 6 (some .boolean) d 0 0 [rv B a0, .int x1, .int x2] σ (some (.int rf)) σf := by
  refine xMA.of (by decide +kernel) (Nat.le_of_ble_eq_true rfl) (cat_rv (cat_int (cat_int cat_nil))) (fun G C E => ?_)
  unfold g_X0_isEvenBy at h
  obtain ⟨-, h⟩ := r_ck h
  refine r_iconst (pc := 0) (v := 0) C dX0_isEvenBy_0 (by decide) ?_
  refine r_istore_n (pc := 1) (i := 3) C dX0_isEvenBy_1 rfl (by decide) ?_
  refine r_pick (lv' := [(0, rv B a0), (1, .int x1), (2, .int x2), (3, .int 0)]) [0, 1, 2, 3] rfl ?_
  refine wl_X0_isEvenBy_2 hd C E (fun  σ15 h => ?_) _ _ _ h
  refine r_iconst (pc := 90) (v := 1) C dX0_isEvenBy_90 (by decide) ?_
  exact r_zretL (pc := 91) C rfl dX0_isEvenBy_91 (Or.inr rfl) h E
theorem t_X0_isEvenBy {F : Nat} {σ : MM} {a0 : Nat} {x1 : Int32} {x2 : Int32} {r : Int32 × MM} (h : g_X0_isEvenBy F σ a0 x1 x2 = some r) : mT σ a0 = (0, 22) := by
  unfold g_X0_isEvenBy at h
  exact (r_ck h).1
theorem yd_X0_takesDebts : xYd yX0_takesDebts 0 := ⟨by decide +kernel, by decide +kernel, by decide +kernel⟩
theorem cs_X0_264_X0_takesDebts : xCV RX0 264 yX0_takesDebts cX0_takesDebts 5 (some .int) 0 22 0 := ⟨by decide, by decide, _, rfl, yd_X0_takesDebts, Or.inl ⟨rfl, lw_V q1150 q1152 qs40 q116 q1153⟩⟩
theorem yd_X0_isEvenBy : xYd yX0_isEvenBy 2 := ⟨by decide +kernel, by decide +kernel, by decide +kernel⟩
theorem cs_X0_272_X0_isEvenBy : xCV RX0 272 yX0_isEvenBy cX0_isEvenBy 6 (some .boolean) 0 22 2 := ⟨by decide, by decide, _, rfl, yd_X0_isEvenBy, Or.inl ⟨rfl, lw_V q1160 q1162 qs41 q116 q1163⟩⟩
theorem yd_J6_bitCount : xYd yJ6_bitCount 1 := ⟨by decide +kernel, by decide +kernel, by decide +kernel⟩
theorem cs_X0_267_J6_bitCount : xCS RX0 267 yJ6_bitCount cJ6_bitCount 1 (some .int) 1 := ⟨by decide, yd_J6_bitCount, Or.inl (lw_S q1154 q1155 q141 q1156)⟩
def l_X0_turned_38 (K : Int32 → MM → Option (Int32 × MM)) (F : Nat) (a0 : Nat) (x1 : Int32) (x2 : Int32) : Nat → Int32 → Int32 → MM → Option (Int32 × MM)
  | 0, _, _, _ => none
  | f + 1, z3, z4, σ => if z4 < ((1 : Int32) <<< (x2 &&& 31)) then (if z3 = (-1) then (bq (g_X0_isEvenBy F σ a0 z4 x2) fun v10 σ9 => if v10 = 0 then (l_X0_turned_38 K F a0 x1 x2 f z3 ((z4 + 1)) σ9) else (l_X0_turned_38 K F a0 x1 x2 f z4 ((z4 + 1)) σ9)) else (bq (g_J6_bitCount F σ z4) fun v12 σ11 => bq (g_J6_bitCount F σ11 z3) fun v14 σ13 => if v12 < v14 then (bq (g_X0_isEvenBy F σ13 a0 z4 x2) fun v16 σ15 => if v16 = 0 then (l_X0_turned_38 K F a0 x1 x2 f z3 ((z4 + 1)) σ15) else (l_X0_turned_38 K F a0 x1 x2 f z4 ((z4 + 1)) σ15)) else (l_X0_turned_38 K F a0 x1 x2 f z3 ((z4 + 1)) σ13))) else (K z3 σ)
def g_X0_turned (F : Nat) (σ : MM) (a0 : Nat) (x1 : Int32) : Option (Int32 × MM) := if mT σ a0 = (0, 22) then (bq (g_X0_in F σ x1 2) fun v2 σ1 => if v2 = 0 then (some ((-1), σ1)) else ((gP σ1 a0 0 22 4).bind fun p3 => (gP σ1 p3 2 16 0).bind fun p4 => bq (g_X4_all F σ1 p4) fun v6 σ5 => if 12 < v6 then (some ((-3), σ5)) else (bq (g_X0_takesDebts F σ5 a0) fun v8 σ7 => l_X0_turned_38 (fun (r3_18 : Int32) (σ17 : MM) => if r3_18 = (-1) then (some ((-2), σ17)) else (if x1 = 0 then (bq (g_J6_bitCount F σ17 r3_18) fun v20 σ19 => some (v20, σ19)) else (some (r3_18, σ17)))) F a0 x1 v8 F ((-1)) 0 σ7))) else none
theorem wl_X0_turned_38 {B : Nat} {G : XG} {d : Nat} {rf : Int32} {σf : MM} (hd : 2 ≤ d) (C : xC B G yX0_turned cX0_turned 5 (some .int) d 0 0) (E : xEnd B G (some (.int rf)) σf 0 0) {K : Int32 → MM → Option (Int32 × MM)} {F : Nat} {a0 : Nat} {x1 : Int32} {x2 : Int32} (hK : ∀ (q3 : Int32) (σ : MM), K q3 σ = some (rf, σf) → xV B G 0 0 σ 82 [(1, .int x1), (3, .int q3)] []) : ∀ (f : Nat) (z3 : Int32) (z4 : Int32) (σ : MM), l_X0_turned_38 K F a0 x1 x2 f z3 z4 σ = some (rf, σf) → xV B G 0 0 σ 38 [(0, rv B a0), (1, .int x1), (2, .int x2), (3, .int z3), (4, .int z4)] [] := by
  intro f
  induction f with
  | zero =>
    intro z3 z4 σ h
    have h : none = some (rf, σf) := h
    cases h
  | succ f ih =>
    intro z3 z4 σ h
    rw [l_X0_turned_38.eq_2] at h
    refine r_iload (pc := 38) (i := 4) C dX0_turned_38 rfl ?_
    refine r_iconst (pc := 40) (v := 1) C dX0_turned_40 (by decide) ?_
    refine r_iload_n (pc := 41) (i := 2) C dX0_turned_41 rfl rfl ?_
    refine r_ishl (pc := 42) C dX0_turned_42 ?_
    refine r_icmpge (pc := 43) (tgt := 82) C dX0_turned_43 (by decide) h (fun h => ?_) (fun h => ?_)
    · refine r_pick (lv' := [(1, .int x1), (3, .int z3)]) [1, 3] rfl ?_
      exact hK _ _ h
    · refine r_iload_n (pc := 46) (i := 3) C dX0_turned_46 rfl rfl ?_
      refine r_iconst (pc := 47) (v := (-1)) C dX0_turned_47 (by decide) ?_
      refine r_icmpeq (pc := 48) (tgt := 63) C dX0_turned_48 (by decide) h (fun h => ?_) (fun h => ?_)
      · refine r_aload_n (pc := 63) (i := 0) C dX0_turned_63 rfl rfl ?_
        refine r_iload (pc := 64) (i := 4) C dX0_turned_64 rfl ?_
        refine r_iload_n (pc := 66) (i := 2) C dX0_turned_66 rfl rfl ?_
        refine r_callVI (pc := 67) (As := [.int z4, .int x2]) (st := []) C cs_X0_272_X0_isEvenBy h (fun _ _ e => w_X0_isEvenBy (Nat.le_refl 1) e) (fun _ _ e => t_X0_isEvenBy e) (Nat.le_trans (Nat.le_of_ble_eq_true rfl) hd) (Nat.le_of_ble_eq_true rfl) dX0_turned_67 (fun v10 σ9 h => ?_)
        refine r_ifeq (pc := 70) (tgt := 76) C dX0_turned_70 (by decide) h (fun h => ?_) (fun h => ?_)
        · refine r_iinc (pc := 76) (i := 4) (v := (z4 + 1)) C dX0_turned_76 rfl rfl (by decide) ?_
          refine r_goto (pc := 79) (tgt := 38) C dX0_turned_79 (by decide) ?_
          refine r_pick (lv' := [(0, rv B a0), (1, .int x1), (2, .int x2), (3, .int z3), (4, .int (z4 + 1))]) [0, 1, 2, 3, 4] rfl ?_
          exact ih _ _ _ h
        · refine r_iload (pc := 73) (i := 4) C dX0_turned_73 rfl ?_
          refine r_istore_n (pc := 75) (i := 3) C dX0_turned_75 rfl (by decide) ?_
          refine r_iinc (pc := 76) (i := 4) (v := (z4 + 1)) C dX0_turned_76 rfl rfl (by decide) ?_
          refine r_goto (pc := 79) (tgt := 38) C dX0_turned_79 (by decide) ?_
          refine r_pick (lv' := [(0, rv B a0), (1, .int x1), (2, .int x2), (3, .int z4), (4, .int (z4 + 1))]) [0, 1, 2, 3, 4] rfl ?_
          exact ih _ _ _ h
      · refine r_iload (pc := 51) (i := 4) C dX0_turned_51 rfl ?_
        refine r_callSI (pc := 53) (As := [.int z4]) (st := []) C cs_X0_267_J6_bitCount h (fun _ _ e => w_J6_bitCount (Nat.le_refl 0) e) (Nat.le_trans (Nat.le_of_ble_eq_true rfl) hd) (Nat.le_of_ble_eq_true rfl) dX0_turned_53 (fun v12 σ11 h => ?_)
        refine r_iload_n (pc := 56) (i := 3) C dX0_turned_56 rfl rfl ?_
        refine r_callSI (pc := 57) (As := [.int z3]) (st := [.int v12]) C cs_X0_267_J6_bitCount h (fun _ _ e => w_J6_bitCount (Nat.le_refl 0) e) (Nat.le_trans (Nat.le_of_ble_eq_true rfl) hd) (Nat.le_of_ble_eq_true rfl) dX0_turned_57 (fun v14 σ13 h => ?_)
        refine r_icmpge (pc := 60) (tgt := 76) C dX0_turned_60 (by decide) h (fun h => ?_) (fun h => ?_)
        · refine r_iinc (pc := 76) (i := 4) (v := (z4 + 1)) C dX0_turned_76 rfl rfl (by decide) ?_
          refine r_goto (pc := 79) (tgt := 38) C dX0_turned_79 (by decide) ?_
          refine r_pick (lv' := [(0, rv B a0), (1, .int x1), (2, .int x2), (3, .int z3), (4, .int (z4 + 1))]) [0, 1, 2, 3, 4] rfl ?_
          exact ih _ _ _ h
        · refine r_aload_n (pc := 63) (i := 0) C dX0_turned_63 rfl rfl ?_
          refine r_iload (pc := 64) (i := 4) C dX0_turned_64 rfl ?_
          refine r_iload_n (pc := 66) (i := 2) C dX0_turned_66 rfl rfl ?_
          refine r_callVI (pc := 67) (As := [.int z4, .int x2]) (st := []) C cs_X0_272_X0_isEvenBy h (fun _ _ e => w_X0_isEvenBy (Nat.le_refl 1) e) (fun _ _ e => t_X0_isEvenBy e) (Nat.le_trans (Nat.le_of_ble_eq_true rfl) hd) (Nat.le_of_ble_eq_true rfl) dX0_turned_67 (fun v16 σ15 h => ?_)
          refine r_ifeq (pc := 70) (tgt := 76) C dX0_turned_70 (by decide) h (fun h => ?_) (fun h => ?_)
          · refine r_iinc (pc := 76) (i := 4) (v := (z4 + 1)) C dX0_turned_76 rfl rfl (by decide) ?_
            refine r_goto (pc := 79) (tgt := 38) C dX0_turned_79 (by decide) ?_
            refine r_pick (lv' := [(0, rv B a0), (1, .int x1), (2, .int x2), (3, .int z3), (4, .int (z4 + 1))]) [0, 1, 2, 3, 4] rfl ?_
            exact ih _ _ _ h
          · refine r_iload (pc := 73) (i := 4) C dX0_turned_73 rfl ?_
            refine r_istore_n (pc := 75) (i := 3) C dX0_turned_75 rfl (by decide) ?_
            refine r_iinc (pc := 76) (i := 4) (v := (z4 + 1)) C dX0_turned_76 rfl rfl (by decide) ?_
            refine r_goto (pc := 79) (tgt := 38) C dX0_turned_79 (by decide) ?_
            refine r_pick (lv' := [(0, rv B a0), (1, .int x1), (2, .int x2), (3, .int z4), (4, .int (z4 + 1))]) [0, 1, 2, 3, 4] rfl ?_
            exact ih _ _ _ h
theorem w_X0_turned {B F : Nat} {d : Nat} {σ : MM} {a0 : Nat} {x1 : Int32} {rf : Int32} {σf : MM} (hd : 2 ≤ d) (h : g_X0_turned F σ a0 x1 = some (rf, σf)) : xMA B yX0_turned cX0_turned 5 (some .int) d 0 0 [rv B a0, .int x1] σ (some (.int rf)) σf := by
  refine xMA.of (by decide +kernel) (Nat.le_of_ble_eq_true rfl) (cat_rv (cat_int cat_nil)) (fun G C E => ?_)
  unfold g_X0_turned at h
  obtain ⟨-, h⟩ := r_ck h
  refine r_iload_n (pc := 0) (i := 1) C dX0_turned_0 rfl rfl ?_
  refine r_iconst (pc := 1) (v := 2) C dX0_turned_1 (by decide) ?_
  refine r_callSI (pc := 2) (As := [.int x1, .int 2]) (st := []) C cs_X0_15_X0_in h (fun _ _ e => w_X0_in (Nat.le_refl 0) e) (Nat.le_trans (Nat.le_of_ble_eq_true rfl) hd) (Nat.le_of_ble_eq_true rfl) dX0_turned_2 (fun v2 σ1 h => ?_)
  refine r_ifne (pc := 5) (tgt := 10) C dX0_turned_5 (by decide) h (fun h => ?_) (fun h => ?_)
  · refine r_aload_n (pc := 10) (i := 0) C dX0_turned_10 rfl rfl ?_
    refine r_getP (pc := 11) C fd_X0_66 rfl dX0_turned_11 h (fun p3 h => ?_)
    refine r_getP (pc := 14) C fd_X0_131 rfl dX0_turned_14 h (fun p4 h => ?_)
    refine r_callVI (pc := 17) (As := []) (st := []) C cs_X0_199_X4_all h (fun _ _ e => w_X4_all (Nat.le_refl 1) e) (fun _ _ e => t_X4_all e) (Nat.le_trans (Nat.le_of_ble_eq_true rfl) hd) (Nat.le_of_ble_eq_true rfl) dX0_turned_17 (fun v6 σ5 h => ?_)
    refine r_bipush (pc := 20) (v := 12) C dX0_turned_20 (by decide) ?_
    refine r_icmple (pc := 22) (tgt := 28) C dX0_turned_22 (by decide) h (fun h => ?_) (fun h => ?_)
    · refine r_aload_n (pc := 28) (i := 0) C dX0_turned_28 rfl rfl ?_
      refine r_callVI (pc := 29) (As := []) (st := []) C cs_X0_264_X0_takesDebts h (fun _ _ e => w_X0_takesDebts (Nat.le_refl 0) e) (fun _ _ e => t_X0_takesDebts e) (Nat.le_trans (Nat.le_of_ble_eq_true rfl) hd) (Nat.le_of_ble_eq_true rfl) dX0_turned_29 (fun v8 σ7 h => ?_)
      refine r_istore_n (pc := 32) (i := 2) C dX0_turned_32 rfl (by decide) ?_
      refine r_iconst (pc := 33) (v := (-1)) C dX0_turned_33 (by decide) ?_
      refine r_istore_n (pc := 34) (i := 3) C dX0_turned_34 rfl (by decide) ?_
      refine r_iconst (pc := 35) (v := 0) C dX0_turned_35 (by decide) ?_
      refine r_istore (pc := 36) (i := 4) C dX0_turned_36 (by decide) ?_
      refine r_pick (lv' := [(0, rv B a0), (1, .int x1), (2, .int v8), (3, .int (-1)), (4, .int 0)]) [0, 1, 2, 3, 4] rfl ?_
      refine wl_X0_turned_38 hd C E (fun r3_18 σ17 h => ?_) _ _ _ _ h
      refine r_iload_n (pc := 82) (i := 3) C dX0_turned_82 rfl rfl ?_
      refine r_iconst (pc := 83) (v := (-1)) C dX0_turned_83 (by decide) ?_
      refine r_icmpne (pc := 84) (tgt := 92) C dX0_turned_84 (by decide) h (fun h => ?_) (fun h => ?_)
      · refine r_iload_n (pc := 92) (i := 1) C dX0_turned_92 rfl rfl ?_
        refine r_ifne (pc := 93) (tgt := 103) C dX0_turned_93 (by decide) h (fun h => ?_) (fun h => ?_)
        · refine r_iload_n (pc := 103) (i := 3) C dX0_turned_103 rfl rfl ?_
          exact r_iret (pc := 104) C rfl dX0_turned_104 h E
        · refine r_iload_n (pc := 96) (i := 3) C dX0_turned_96 rfl rfl ?_
          refine r_callSI (pc := 97) (As := [.int r3_18]) (st := []) C cs_X0_267_J6_bitCount h (fun _ _ e => w_J6_bitCount (Nat.le_refl 0) e) (Nat.le_trans (Nat.le_of_ble_eq_true rfl) hd) (Nat.le_of_ble_eq_true rfl) dX0_turned_97 (fun v20 σ19 h => ?_)
          refine r_goto (pc := 100) (tgt := 104) C dX0_turned_100 (by decide) ?_
          exact r_iret (pc := 104) C rfl dX0_turned_104 h E
      · refine r_bipush (pc := 87) (v := (-2)) C dX0_turned_87 (by decide) ?_
        refine r_goto (pc := 89) (tgt := 104) C dX0_turned_89 (by decide) ?_
        exact r_iret (pc := 104) C rfl dX0_turned_104 h E
    · refine r_bipush (pc := 25) (v := (-3)) C dX0_turned_25 (by decide) ?_
      exact r_iret (pc := 27) C rfl dX0_turned_27 h E
  · refine r_iconst (pc := 8) (v := (-1)) C dX0_turned_8 (by decide) ?_
    exact r_iret (pc := 9) C rfl dX0_turned_9 h E
theorem t_X0_turned {F : Nat} {σ : MM} {a0 : Nat} {x1 : Int32} {r : Int32 × MM} (h : g_X0_turned F σ a0 x1 = some r) : mT σ a0 = (0, 22) := by
  unfold g_X0_turned at h
  exact (r_ck h).1
def g_X0_setOff (F : Nat) (σ : MM) (a0 : Nat) (x1 : Int32) : Option (Int32 × MM) := if mT σ a0 = (0, 22) then (bq (g_X0_isTold F σ a0 x1) fun v2 σ1 => if v2 = 0 then (some ((-1000000), σ1)) else (bq (g_X0_netOf F σ1 a0 x1) fun v4 σ3 => some (v4, σ3))) else none
theorem w_X0_setOff {B F : Nat} {d : Nat} {σ : MM} {a0 : Nat} {x1 : Int32} {rf : Int32} {σf : MM} (hd : 2 ≤ d) (h : g_X0_setOff F σ a0 x1 = some (rf, σf)) : xMA B yX0_setOff cX0_setOff 2 (some .int) d 0 0 [rv B a0, .int x1] σ (some (.int rf)) σf := by
  refine xMA.of (by decide +kernel) (Nat.le_of_ble_eq_true rfl) (cat_rv (cat_int cat_nil)) (fun G C E => ?_)
  unfold g_X0_setOff at h
  obtain ⟨-, h⟩ := r_ck h
  refine r_aload_n (pc := 0) (i := 0) C dX0_setOff_0 rfl rfl ?_
  refine r_iload_n (pc := 1) (i := 1) C dX0_setOff_1 rfl rfl ?_
  refine r_callVI (pc := 2) (As := [.int x1]) (st := []) C cs_X0_123_X0_isTold h (fun _ _ e => w_X0_isTold (Nat.le_refl 1) e) (fun _ _ e => t_X0_isTold e) (Nat.le_trans (Nat.le_of_ble_eq_true rfl) hd) (Nat.le_of_ble_eq_true rfl) dX0_setOff_2 (fun v2 σ1 h => ?_)
  refine r_ifeq (pc := 5) (tgt := 16) C dX0_setOff_5 (by decide) h (fun h => ?_) (fun h => ?_)
  · refine r_ldc_w (pc := 16) C q1168 dX0_setOff_16 ?_
    exact r_iret (pc := 19) C rfl dX0_setOff_19 h E
  · refine r_aload_n (pc := 8) (i := 0) C dX0_setOff_8 rfl rfl ?_
    refine r_iload_n (pc := 9) (i := 1) C dX0_setOff_9 rfl rfl ?_
    refine r_callVI (pc := 10) (As := [.int x1]) (st := []) C cs_X0_251_X0_netOf h (fun _ _ e => w_X0_netOf (Nat.le_refl 1) e) (fun _ _ e => t_X0_netOf e) (Nat.le_trans (Nat.le_of_ble_eq_true rfl) hd) (Nat.le_of_ble_eq_true rfl) dX0_setOff_10 (fun v4 σ3 h => ?_)
    refine r_goto (pc := 13) (tgt := 19) C dX0_setOff_13 (by decide) ?_
    exact r_iret (pc := 19) C rfl dX0_setOff_19 h E
theorem t_X0_setOff {F : Nat} {σ : MM} {a0 : Nat} {x1 : Int32} {r : Int32 × MM} (h : g_X0_setOff F σ a0 x1 = some r) : mT σ a0 = (0, 22) := by
  unfold g_X0_setOff at h
  exact (r_ck h).1
def l_X0_netOfAll_4 (K : Int32 → MM → Option (Int32 × MM)) (F : Nat) (a0 : Nat) (x1 : Int32) : Nat → Int32 → Int32 → MM → Option (Int32 × MM)
  | 0, _, _, _ => none
  | f + 1, z2, z3, σ => if z3 < 10 then (bq (g_X0_has F σ x1 z3) fun v2 σ1 => jn (fun (w4 : Int32) (σ3 : MM) => l_X0_netOfAll_4 K F a0 x1 f ((z2 + w4)) ((z3 + 1)) σ3) (fun k5 => if v2 = 0 then (k5 0 σ1) else (bq (g_X0_netOf F σ1 a0 z3) fun v7 σ6 => k5 v7 σ6))) else (K z2 σ)
def g_X0_netOfAll (F : Nat) (σ : MM) (a0 : Nat) (x1 : Int32) : Option (Int32 × MM) := if mT σ a0 = (0, 22) then (l_X0_netOfAll_4 (fun (r2_9 : Int32) (σ8 : MM) => some (r2_9, σ8)) F a0 x1 F 0 0 σ) else none
theorem wl_X0_netOfAll_4 {B : Nat} {G : XG} {d : Nat} {rf : Int32} {σf : MM} (hd : 2 ≤ d) (C : xC B G yX0_netOfAll cX0_netOfAll 4 (some .int) d 0 0) (E : xEnd B G (some (.int rf)) σf 0 0) {K : Int32 → MM → Option (Int32 × MM)} {F : Nat} {a0 : Nat} {x1 : Int32} (hK : ∀ (q2 : Int32) (σ : MM), K q2 σ = some (rf, σf) → xV B G 0 0 σ 36 [(2, .int q2)] []) : ∀ (f : Nat) (z2 : Int32) (z3 : Int32) (σ : MM), l_X0_netOfAll_4 K F a0 x1 f z2 z3 σ = some (rf, σf) → xV B G 0 0 σ 4 [(0, rv B a0), (1, .int x1), (2, .int z2), (3, .int z3)] [] := by
  intro f
  induction f with
  | zero =>
    intro z2 z3 σ h
    have h : none = some (rf, σf) := h
    cases h
  | succ f ih =>
    intro z2 z3 σ h
    rw [l_X0_netOfAll_4.eq_2] at h
    refine r_iload_n (pc := 4) (i := 3) C dX0_netOfAll_4 rfl rfl ?_
    refine r_bipush (pc := 5) (v := 10) C dX0_netOfAll_5 (by decide) ?_
    refine r_icmpge (pc := 7) (tgt := 36) C dX0_netOfAll_7 (by decide) h (fun h => ?_) (fun h => ?_)
    · refine r_pick (lv' := [(2, .int z2)]) [2] rfl ?_
      exact hK _ _ h
    · refine r_iload_n (pc := 10) (i := 2) C dX0_netOfAll_10 rfl rfl ?_
      refine r_iload_n (pc := 11) (i := 1) C dX0_netOfAll_11 rfl rfl ?_
      refine r_iload_n (pc := 12) (i := 3) C dX0_netOfAll_12 rfl rfl ?_
      refine r_callSI (pc := 13) (As := [.int x1, .int z3]) (st := [.int z2]) C cs_X0_23_X0_has h (fun _ _ e => w_X0_has (Nat.le_refl 0) e) (Nat.le_trans (Nat.le_of_ble_eq_true rfl) hd) (Nat.le_of_ble_eq_true rfl) dX0_netOfAll_13 (fun v2 σ1 h => ?_)
      refine r_jn (fun k9 => ∀ (w4 : Int32) (σ3 : MM), k9 w4 σ3 = some (rf, σf) → xV B G 0 0 σ3 28 [(0, rv B a0), (1, .int x1), (3, .int z3)] [.int w4, .int z2]) h (fun w4 σ3 h => ?_) (fun k5 hk5 h => ?_)
      · refine r_iadd (pc := 28) C dX0_netOfAll_28 ?_
        refine r_istore_n (pc := 29) (i := 2) C dX0_netOfAll_29 rfl (by decide) ?_
        refine r_iinc (pc := 30) (i := 3) (v := (z3 + 1)) C dX0_netOfAll_30 rfl rfl (by decide) ?_
        refine r_goto (pc := 33) (tgt := 4) C dX0_netOfAll_33 (by decide) ?_
        refine r_pick (lv' := [(0, rv B a0), (1, .int x1), (2, .int (z2 + w4)), (3, .int (z3 + 1))]) [0, 1, 2, 3] rfl ?_
        exact ih _ _ _ h
      · refine r_ifeq (pc := 16) (tgt := 27) C dX0_netOfAll_16 (by decide) h (fun h => ?_) (fun h => ?_)
        · refine r_iconst (pc := 27) (v := 0) C dX0_netOfAll_27 (by decide) ?_
          refine r_pick (lv' := [(0, rv B a0), (1, .int x1), (3, .int z3)]) [0, 1, 3] rfl ?_
          exact hk5 _ _ h
        · refine r_aload_n (pc := 19) (i := 0) C dX0_netOfAll_19 rfl rfl ?_
          refine r_iload_n (pc := 20) (i := 3) C dX0_netOfAll_20 rfl rfl ?_
          refine r_callVI (pc := 21) (As := [.int z3]) (st := [.int z2]) C cs_X0_251_X0_netOf h (fun _ _ e => w_X0_netOf (Nat.le_refl 1) e) (fun _ _ e => t_X0_netOf e) (Nat.le_trans (Nat.le_of_ble_eq_true rfl) hd) (Nat.le_of_ble_eq_true rfl) dX0_netOfAll_21 (fun v7 σ6 h => ?_)
          refine r_goto (pc := 24) (tgt := 28) C dX0_netOfAll_24 (by decide) ?_
          refine r_pick (lv' := [(0, rv B a0), (1, .int x1), (3, .int z3)]) [0, 1, 3] rfl ?_
          exact hk5 _ _ h
theorem w_X0_netOfAll {B F : Nat} {d : Nat} {σ : MM} {a0 : Nat} {x1 : Int32} {rf : Int32} {σf : MM} (hd : 2 ≤ d) (h : g_X0_netOfAll F σ a0 x1 = some (rf, σf)) : xMA B yX0_netOfAll cX0_netOfAll 4 (some .int) d 0 0 [rv B a0, .int x1] σ (some (.int rf)) σf := by
  refine xMA.of (by decide +kernel) (Nat.le_of_ble_eq_true rfl) (cat_rv (cat_int cat_nil)) (fun G C E => ?_)
  unfold g_X0_netOfAll at h
  obtain ⟨-, h⟩ := r_ck h
  refine r_iconst (pc := 0) (v := 0) C dX0_netOfAll_0 (by decide) ?_
  refine r_istore_n (pc := 1) (i := 2) C dX0_netOfAll_1 rfl (by decide) ?_
  refine r_iconst (pc := 2) (v := 0) C dX0_netOfAll_2 (by decide) ?_
  refine r_istore_n (pc := 3) (i := 3) C dX0_netOfAll_3 rfl (by decide) ?_
  refine r_pick (lv' := [(0, rv B a0), (1, .int x1), (2, .int 0), (3, .int 0)]) [0, 1, 2, 3] rfl ?_
  refine wl_X0_netOfAll_4 hd C E (fun r2_9 σ8 h => ?_) _ _ _ _ h
  refine r_iload_n (pc := 36) (i := 2) C dX0_netOfAll_36 rfl rfl ?_
  exact r_iret (pc := 37) C rfl dX0_netOfAll_37 h E
theorem t_X0_netOfAll {F : Nat} {σ : MM} {a0 : Nat} {x1 : Int32} {r : Int32 × MM} (h : g_X0_netOfAll F σ a0 x1 = some r) : mT σ a0 = (0, 22) := by
  unfold g_X0_netOfAll at h
  exact (r_ck h).1
theorem fd_X0_117 : xFg RX0 117 0 22 21 := ⟨_, rfl, rfl, by decide, by decide, in_X0, Or.inl q336⟩
theorem ft_X0_21 : xFt 0 21 (.array .int) true := ⟨_, rfl, by decide +kernel, rfl, rfl⟩
theorem yd_X0_netOfAll : xYd yX0_netOfAll 1 := ⟨by decide +kernel, by decide +kernel, by decide +kernel⟩
theorem cs_X0_276_X0_netOfAll : xCV RX0 276 yX0_netOfAll cX0_netOfAll 4 (some .int) 0 22 1 := ⟨by decide, by decide, _, rfl, yd_X0_netOfAll, Or.inl ⟨rfl, lw_V q1173 q1175 qs42 q116 q1176⟩⟩
def l_X0_fewest_4 (K : Int32 → MM → Option (Int32 × MM)) (F : Nat) (a0 : Nat) : Nat → Int32 → Int32 → MM → Option (Int32 × MM)
  | 0, _, _, _ => none
  | f + 1, z1, z2, σ => if z2 < 10 then (bq (g_X0_netOf F σ a0 z2) fun v2 σ1 => jn (fun (w4 : Int32) (σ3 : MM) => l_X0_fewest_4 K F a0 f ((z1 ||| w4)) ((z2 + 1)) σ3) (fun k5 => if v2 = 0 then (k5 0 σ1) else (k5 (((1 : Int32) <<< (z2 &&& 31))) σ1))) else (K z1 σ)
def l_X0_fewest_57 (K : Int32 → MM → Option (Int32 × MM)) (F : Nat) (a0 : Nat) (x1 : Int32) (x2 : Int32) : Nat → Int32 → Int32 → MM → Option (Int32 × MM)
  | 0, _, _, _ => none
  | f + 1, z3, z4, σ => if z4 < 10 then (bq (g_X0_has F σ x2 z4) fun v9 σ8 => if v9 = 0 then (l_X0_fewest_57 K F a0 x1 x2 f z3 ((z4 + 1)) σ8) else ((gP σ8 a0 0 22 21).bind fun p10 => (aI σ8 p10 20 ((x2 &&& (((1 : Int32) <<< (z4 &&& 31)) ^^^ (-1))))).bind fun v11 => l_X0_fewest_57 K F a0 x1 x2 f ((jmax z3 v11)) ((z4 + 1)) σ8)) else (K z3 σ)
def l_X0_fewest_36 (K : MM → Option (Int32 × MM)) (F : Nat) (a0 : Nat) (x1 : Int32) : Nat → Int32 → MM → Option (Int32 × MM)
  | 0, _, _ => none
  | f + 1, z2, σ => if x1 < z2 then (K σ) else (if (z2 &&& (x1 ^^^ (-1))) = 0 then (l_X0_fewest_57 (fun (r3_15 : Int32) (σ14 : MM) => (gP σ14 a0 0 22 21).bind fun p16 => jn (fun (w18 : Int32) (σ17 : MM) => (sI σ17 p16 z2 ((r3_15 + w18))).bind fun σ20 => l_X0_fewest_36 K F a0 x1 f ((z2 + 1)) σ20) (fun k19 => if z2 = 0 then (k19 0 σ14) else (bq (g_X0_netOfAll F σ14 a0 z2) fun v22 σ21 => if v22 = 0 then (k19 1 σ21) else (k19 0 σ21)))) F a0 x1 z2 F 0 0 σ) else (l_X0_fewest_36 K F a0 x1 f ((z2 + 1)) σ))
def g_X0_fewest (F : Nat) (σ : MM) (a0 : Nat) : Option (Int32 × MM) := if mT σ a0 = (0, 22) then (l_X0_fewest_4 (fun (r1_7 : Int32) (σ6 : MM) => l_X0_fewest_36 (fun (σ23 : MM) => bq (g_J6_bitCount F σ23 r1_7) fun v25 σ24 => (gP σ24 a0 0 22 21).bind fun p26 => (aI σ24 p26 20 r1_7).bind fun v27 => some ((v25 - v27), σ24)) F a0 r1_7 F 0 σ6) F a0 F 0 0 σ) else none
theorem wl_X0_fewest_4 {B : Nat} {G : XG} {d : Nat} {rf : Int32} {σf : MM} (hd : 3 ≤ d) (C : xC B G yX0_fewest cX0_fewest 5 (some .int) d 0 0) (E : xEnd B G (some (.int rf)) σf 0 0) {K : Int32 → MM → Option (Int32 × MM)} {F : Nat} {a0 : Nat} (hK : ∀ (q1 : Int32) (σ : MM), K q1 σ = some (rf, σf) → xV B G 0 0 σ 34 [(0, rv B a0), (1, .int q1)] []) : ∀ (f : Nat) (z1 : Int32) (z2 : Int32) (σ : MM), l_X0_fewest_4 K F a0 f z1 z2 σ = some (rf, σf) → xV B G 0 0 σ 4 [(0, rv B a0), (1, .int z1), (2, .int z2)] [] := by
  intro f
  induction f with
  | zero =>
    intro z1 z2 σ h
    have h : none = some (rf, σf) := h
    cases h
  | succ f ih =>
    intro z1 z2 σ h
    rw [l_X0_fewest_4.eq_2] at h
    refine r_iload_n (pc := 4) (i := 2) C dX0_fewest_4 rfl rfl ?_
    refine r_bipush (pc := 5) (v := 10) C dX0_fewest_5 (by decide) ?_
    refine r_icmpge (pc := 7) (tgt := 34) C dX0_fewest_7 (by decide) h (fun h => ?_) (fun h => ?_)
    · refine r_pick (lv' := [(0, rv B a0), (1, .int z1)]) [0, 1] rfl ?_
      exact hK _ _ h
    · refine r_iload_n (pc := 10) (i := 1) C dX0_fewest_10 rfl rfl ?_
      refine r_aload_n (pc := 11) (i := 0) C dX0_fewest_11 rfl rfl ?_
      refine r_iload_n (pc := 12) (i := 2) C dX0_fewest_12 rfl rfl ?_
      refine r_callVI (pc := 13) (As := [.int z2]) (st := [.int z1]) C cs_X0_251_X0_netOf h (fun _ _ e => w_X0_netOf (Nat.le_refl 1) e) (fun _ _ e => t_X0_netOf e) (Nat.le_trans (Nat.le_of_ble_eq_true rfl) hd) (Nat.le_of_ble_eq_true rfl) dX0_fewest_13 (fun v2 σ1 h => ?_)
      refine r_jn (fun k9 => ∀ (w4 : Int32) (σ3 : MM), k9 w4 σ3 = some (rf, σf) → xV B G 0 0 σ3 26 [(0, rv B a0), (2, .int z2)] [.int w4, .int z1]) h (fun w4 σ3 h => ?_) (fun k5 hk5 h => ?_)
      · refine r_ior (pc := 26) C dX0_fewest_26 ?_
        refine r_istore_n (pc := 27) (i := 1) C dX0_fewest_27 rfl (by decide) ?_
        refine r_iinc (pc := 28) (i := 2) (v := (z2 + 1)) C dX0_fewest_28 rfl rfl (by decide) ?_
        refine r_goto (pc := 31) (tgt := 4) C dX0_fewest_31 (by decide) ?_
        refine r_pick (lv' := [(0, rv B a0), (1, .int (z1 ||| w4)), (2, .int (z2 + 1))]) [0, 1, 2] rfl ?_
        exact ih _ _ _ h
      · refine r_ifeq (pc := 16) (tgt := 25) C dX0_fewest_16 (by decide) h (fun h => ?_) (fun h => ?_)
        · refine r_iconst (pc := 25) (v := 0) C dX0_fewest_25 (by decide) ?_
          refine r_pick (lv' := [(0, rv B a0), (2, .int z2)]) [0, 2] rfl ?_
          exact hk5 _ _ h
        · refine r_iconst (pc := 19) (v := 1) C dX0_fewest_19 (by decide) ?_
          refine r_iload_n (pc := 20) (i := 2) C dX0_fewest_20 rfl rfl ?_
          refine r_ishl (pc := 21) C dX0_fewest_21 ?_
          refine r_goto (pc := 22) (tgt := 26) C dX0_fewest_22 (by decide) ?_
          refine r_pick (lv' := [(0, rv B a0), (2, .int z2)]) [0, 2] rfl ?_
          exact hk5 _ _ h
theorem wl_X0_fewest_57 {B : Nat} {G : XG} {d : Nat} {rf : Int32} {σf : MM} (hd : 3 ≤ d) (C : xC B G yX0_fewest cX0_fewest 5 (some .int) d 0 0) (E : xEnd B G (some (.int rf)) σf 0 0) {K : Int32 → MM → Option (Int32 × MM)} {F : Nat} {a0 : Nat} {x1 : Int32} {x2 : Int32} (hK : ∀ (q3 : Int32) (σ : MM), K q3 σ = some (rf, σf) → xV B G 0 0 σ 101 [(0, rv B a0), (1, .int x1), (2, .int x2), (3, .int q3)] []) : ∀ (f : Nat) (z3 : Int32) (z4 : Int32) (σ : MM), l_X0_fewest_57 K F a0 x1 x2 f z3 z4 σ = some (rf, σf) → xV B G 0 0 σ 57 [(0, rv B a0), (1, .int x1), (2, .int x2), (3, .int z3), (4, .int z4)] [] := by
  intro f
  induction f with
  | zero =>
    intro z3 z4 σ h
    have h : none = some (rf, σf) := h
    cases h
  | succ f ih =>
    intro z3 z4 σ h
    rw [l_X0_fewest_57.eq_2] at h
    refine r_iload (pc := 57) (i := 4) C dX0_fewest_57 rfl ?_
    refine r_bipush (pc := 59) (v := 10) C dX0_fewest_59 (by decide) ?_
    refine r_icmpge (pc := 61) (tgt := 101) C dX0_fewest_61 (by decide) h (fun h => ?_) (fun h => ?_)
    · refine r_pick (lv' := [(0, rv B a0), (1, .int x1), (2, .int x2), (3, .int z3)]) [0, 1, 2, 3] rfl ?_
      exact hK _ _ h
    · refine r_iload_n (pc := 64) (i := 2) C dX0_fewest_64 rfl rfl ?_
      refine r_iload (pc := 65) (i := 4) C dX0_fewest_65 rfl ?_
      refine r_callSI (pc := 67) (As := [.int x2, .int z4]) (st := []) C cs_X0_23_X0_has h (fun _ _ e => w_X0_has (Nat.le_refl 0) e) (Nat.le_trans (Nat.le_of_ble_eq_true rfl) hd) (Nat.le_of_ble_eq_true rfl) dX0_fewest_67 (fun v9 σ8 h => ?_)
      refine r_ifeq (pc := 70) (tgt := 93) C dX0_fewest_70 (by decide) h (fun h => ?_) (fun h => ?_)
      · refine r_iload_n (pc := 93) (i := 3) C dX0_fewest_93 rfl rfl ?_
        refine r_istore_n (pc := 94) (i := 3) C dX0_fewest_94 rfl (by decide) ?_
        refine r_iinc (pc := 95) (i := 4) (v := (z4 + 1)) C dX0_fewest_95 rfl rfl (by decide) ?_
        refine r_goto (pc := 98) (tgt := 57) C dX0_fewest_98 (by decide) ?_
        refine r_pick (lv' := [(0, rv B a0), (1, .int x1), (2, .int x2), (3, .int z3), (4, .int (z4 + 1))]) [0, 1, 2, 3, 4] rfl ?_
        exact ih _ _ _ h
      · refine r_iload_n (pc := 73) (i := 3) C dX0_fewest_73 rfl rfl ?_
        refine r_aload_n (pc := 74) (i := 0) C dX0_fewest_74 rfl rfl ?_
        refine r_getP (pc := 75) C fd_X0_117 rfl dX0_fewest_75 h (fun p10 h => ?_)
        refine r_iload_n (pc := 78) (i := 2) C dX0_fewest_78 rfl rfl ?_
        refine r_iconst (pc := 79) (v := 1) C dX0_fewest_79 (by decide) ?_
        refine r_iload (pc := 80) (i := 4) C dX0_fewest_80 rfl ?_
        refine r_ishl (pc := 82) C dX0_fewest_82 ?_
        refine r_iconst (pc := 83) (v := (-1)) C dX0_fewest_83 (by decide) ?_
        refine r_ixor (pc := 84) C dX0_fewest_84 ?_
        refine r_iand (pc := 85) C dX0_fewest_85 ?_
        refine r_iald (pc := 86) C dX0_fewest_86 h (fun v11 h => ?_)
        refine r_mmax (pc := 87) C q915 q496 q126 q497 (Nat.le_trans (Nat.le_of_ble_eq_true rfl) hd) (Nat.le_of_ble_eq_true rfl) (Nat.le_of_ble_eq_true rfl) (Nat.le_of_ble_eq_true rfl) dX0_fewest_87 ?_
        refine r_goto (pc := 90) (tgt := 94) C dX0_fewest_90 (by decide) ?_
        refine r_istore_n (pc := 94) (i := 3) C dX0_fewest_94 rfl (by decide) ?_
        refine r_iinc (pc := 95) (i := 4) (v := (z4 + 1)) C dX0_fewest_95 rfl rfl (by decide) ?_
        refine r_goto (pc := 98) (tgt := 57) C dX0_fewest_98 (by decide) ?_
        refine r_pick (lv' := [(0, rv B a0), (1, .int x1), (2, .int x2), (3, .int (jmax z3 v11)), (4, .int (z4 + 1))]) [0, 1, 2, 3, 4] rfl ?_
        exact ih _ _ _ h
theorem wl_X0_fewest_36 {B : Nat} {G : XG} {d : Nat} {rf : Int32} {σf : MM} (hd : 3 ≤ d) (C : xC B G yX0_fewest cX0_fewest 5 (some .int) d 0 0) (E : xEnd B G (some (.int rf)) σf 0 0) {K : MM → Option (Int32 × MM)} {F : Nat} {a0 : Nat} {x1 : Int32} (hK : ∀ (σ : MM), K σ = some (rf, σf) → xV B G 0 0 σ 132 [(0, rv B a0), (1, .int x1)] []) : ∀ (f : Nat) (z2 : Int32) (σ : MM), l_X0_fewest_36 K F a0 x1 f z2 σ = some (rf, σf) → xV B G 0 0 σ 36 [(0, rv B a0), (1, .int x1), (2, .int z2)] [] := by
  intro f
  induction f with
  | zero =>
    intro z2 σ h
    have h : none = some (rf, σf) := h
    cases h
  | succ f ih =>
    intro z2 σ h
    rw [l_X0_fewest_36.eq_2] at h
    refine r_iload_n (pc := 36) (i := 2) C dX0_fewest_36 rfl rfl ?_
    refine r_iload_n (pc := 37) (i := 1) C dX0_fewest_37 rfl rfl ?_
    refine r_icmpgt (pc := 38) (tgt := 132) C dX0_fewest_38 (by decide) h (fun h => ?_) (fun h => ?_)
    · refine r_pick (lv' := [(0, rv B a0), (1, .int x1)]) [0, 1] rfl ?_
      exact hK _ h
    · refine r_iload_n (pc := 41) (i := 2) C dX0_fewest_41 rfl rfl ?_
      refine r_iload_n (pc := 42) (i := 1) C dX0_fewest_42 rfl rfl ?_
      refine r_iconst (pc := 43) (v := (-1)) C dX0_fewest_43 (by decide) ?_
      refine r_ixor (pc := 44) C dX0_fewest_44 ?_
      refine r_iand (pc := 45) C dX0_fewest_45 ?_
      refine r_ifeq (pc := 46) (tgt := 52) C dX0_fewest_46 (by decide) h (fun h => ?_) (fun h => ?_)
      · refine r_iconst (pc := 52) (v := 0) C dX0_fewest_52 (by decide) ?_
        refine r_istore_n (pc := 53) (i := 3) C dX0_fewest_53 rfl (by decide) ?_
        refine r_iconst (pc := 54) (v := 0) C dX0_fewest_54 (by decide) ?_
        refine r_istore (pc := 55) (i := 4) C dX0_fewest_55 (by decide) ?_
        refine r_pick (lv' := [(0, rv B a0), (1, .int x1), (2, .int z2), (3, .int 0), (4, .int 0)]) [0, 1, 2, 3, 4] rfl ?_
        refine wl_X0_fewest_57 hd C E (fun r3_15 σ14 h => ?_) _ _ _ _ h
        refine r_aload_n (pc := 101) (i := 0) C dX0_fewest_101 rfl rfl ?_
        refine r_getP (pc := 102) C fd_X0_117 rfl dX0_fewest_102 h (fun p16 h => ?_)
        refine r_iload_n (pc := 105) (i := 2) C dX0_fewest_105 rfl rfl ?_
        refine r_iload_n (pc := 106) (i := 3) C dX0_fewest_106 rfl rfl ?_
        refine r_iload_n (pc := 107) (i := 2) C dX0_fewest_107 rfl rfl ?_
        refine r_jn (fun k9 => ∀ (w18 : Int32) (σ17 : MM), k9 w18 σ17 = some (rf, σf) → xV B G 0 0 σ17 124 [(0, rv B a0), (1, .int x1), (2, .int z2)] [.int w18, .int r3_15, .int z2, rv B p16]) h (fun w18 σ17 h => ?_) (fun k19 hk19 h => ?_)
        · refine r_iadd (pc := 124) C dX0_fewest_124 ?_
          refine r_iast (pc := 125) C dX0_fewest_125 h (fun σ20 h => ?_)
          refine r_iinc (pc := 126) (i := 2) (v := (z2 + 1)) C dX0_fewest_126 rfl rfl (by decide) ?_
          refine r_goto (pc := 129) (tgt := 36) C dX0_fewest_129 (by decide) ?_
          refine r_pick (lv' := [(0, rv B a0), (1, .int x1), (2, .int (z2 + 1))]) [0, 1, 2] rfl ?_
          exact ih _ _ h
        · refine r_ifeq (pc := 108) (tgt := 123) C dX0_fewest_108 (by decide) h (fun h => ?_) (fun h => ?_)
          · refine r_iconst (pc := 123) (v := 0) C dX0_fewest_123 (by decide) ?_
            refine r_pick (lv' := [(0, rv B a0), (1, .int x1), (2, .int z2)]) [0, 1, 2] rfl ?_
            exact hk19 _ _ h
          · refine r_aload_n (pc := 111) (i := 0) C dX0_fewest_111 rfl rfl ?_
            refine r_iload_n (pc := 112) (i := 2) C dX0_fewest_112 rfl rfl ?_
            refine r_callVI (pc := 113) (As := [.int z2]) (st := [.int r3_15, .int z2, rv B p16]) C cs_X0_276_X0_netOfAll h (fun _ _ e => w_X0_netOfAll (Nat.le_refl 2) e) (fun _ _ e => t_X0_netOfAll e) (Nat.le_trans (Nat.le_of_ble_eq_true rfl) hd) (Nat.le_of_ble_eq_true rfl) dX0_fewest_113 (fun v22 σ21 h => ?_)
            refine r_ifne (pc := 116) (tgt := 123) C dX0_fewest_116 (by decide) h (fun h => ?_) (fun h => ?_)
            · refine r_iconst (pc := 123) (v := 0) C dX0_fewest_123 (by decide) ?_
              refine r_pick (lv' := [(0, rv B a0), (1, .int x1), (2, .int z2)]) [0, 1, 2] rfl ?_
              exact hk19 _ _ h
            · refine r_iconst (pc := 119) (v := 1) C dX0_fewest_119 (by decide) ?_
              refine r_goto (pc := 120) (tgt := 124) C dX0_fewest_120 (by decide) ?_
              refine r_pick (lv' := [(0, rv B a0), (1, .int x1), (2, .int z2)]) [0, 1, 2] rfl ?_
              exact hk19 _ _ h
      · refine r_goto (pc := 49) (tgt := 126) C dX0_fewest_49 (by decide) ?_
        refine r_iinc (pc := 126) (i := 2) (v := (z2 + 1)) C dX0_fewest_126 rfl rfl (by decide) ?_
        refine r_goto (pc := 129) (tgt := 36) C dX0_fewest_129 (by decide) ?_
        refine r_pick (lv' := [(0, rv B a0), (1, .int x1), (2, .int (z2 + 1))]) [0, 1, 2] rfl ?_
        exact ih _ _ h
theorem w_X0_fewest {B F : Nat} {d : Nat} {σ : MM} {a0 : Nat} {rf : Int32} {σf : MM} (hd : 3 ≤ d) (h : g_X0_fewest F σ a0 = some (rf, σf)) : xMA B yX0_fewest cX0_fewest 5 (some .int) d 0 0 [rv B a0] σ (some (.int rf)) σf := by
  refine xMA.of (by decide +kernel) (Nat.le_of_ble_eq_true rfl) (cat_rv cat_nil) (fun G C E => ?_)
  unfold g_X0_fewest at h
  obtain ⟨-, h⟩ := r_ck h
  refine r_iconst (pc := 0) (v := 0) C dX0_fewest_0 (by decide) ?_
  refine r_istore_n (pc := 1) (i := 1) C dX0_fewest_1 rfl (by decide) ?_
  refine r_iconst (pc := 2) (v := 0) C dX0_fewest_2 (by decide) ?_
  refine r_istore_n (pc := 3) (i := 2) C dX0_fewest_3 rfl (by decide) ?_
  refine r_pick (lv' := [(0, rv B a0), (1, .int 0), (2, .int 0)]) [0, 1, 2] rfl ?_
  refine wl_X0_fewest_4 hd C E (fun r1_7 σ6 h => ?_) _ _ _ _ h
  refine r_iconst (pc := 34) (v := 0) C dX0_fewest_34 (by decide) ?_
  refine r_istore_n (pc := 35) (i := 2) C dX0_fewest_35 rfl (by decide) ?_
  refine r_pick (lv' := [(0, rv B a0), (1, .int r1_7), (2, .int 0)]) [0, 1, 2] rfl ?_
  refine wl_X0_fewest_36 hd C E (fun  σ23 h => ?_) _ _ _ h
  refine r_iload_n (pc := 132) (i := 1) C dX0_fewest_132 rfl rfl ?_
  refine r_callSI (pc := 133) (As := [.int r1_7]) (st := []) C cs_X0_267_J6_bitCount h (fun _ _ e => w_J6_bitCount (Nat.le_refl 0) e) (Nat.le_trans (Nat.le_of_ble_eq_true rfl) hd) (Nat.le_of_ble_eq_true rfl) dX0_fewest_133 (fun v25 σ24 h => ?_)
  refine r_aload_n (pc := 136) (i := 0) C dX0_fewest_136 rfl rfl ?_
  refine r_getP (pc := 137) C fd_X0_117 rfl dX0_fewest_137 h (fun p26 h => ?_)
  refine r_iload_n (pc := 140) (i := 1) C dX0_fewest_140 rfl rfl ?_
  refine r_iald (pc := 141) C dX0_fewest_141 h (fun v27 h => ?_)
  refine r_isub (pc := 142) C dX0_fewest_142 ?_
  exact r_iret (pc := 143) C rfl dX0_fewest_143 h E
theorem t_X0_fewest {F : Nat} {σ : MM} {a0 : Nat} {r : Int32 × MM} (h : g_X0_fewest F σ a0 = some r) : mT σ a0 = (0, 22) := by
  unfold g_X0_fewest at h
  exact (r_ck h).1
theorem cs_X0_279_X4_reach : xCV RX0 279 yX4_reach cX4_reach 4 (some .int) 3 1 1 := ⟨by decide, by decide, _, rfl, yd_X4_reach, Or.inl ⟨rfl, lw_V q1185 q1091 q1092 q120 q1093⟩⟩
def l_X0_ringOf_17 (K : Int32 → MM → Option (Int32 × MM)) (F : Nat) (a0 : Nat) (x1 : Int32) (x3 : Int32) : Nat → Int32 → Int32 → MM → Option (Int32 × MM)
  | 0, _, _, _ => none
  | f + 1, z2, z4, σ => if z4 < 10 then (bq (g_X0_has F σ x3 z4) fun v6 σ5 => jn (fun (w8 : Int32) (σ7 : MM) => l_X0_ringOf_17 K F a0 x1 x3 f ((z2 ||| w8)) ((z4 + 1)) σ7) (fun k9 => if v6 = 0 then (k9 0 σ5) else ((gP σ5 a0 0 22 4).bind fun p10 => (gP σ5 p10 2 16 0).bind fun p11 => bq (g_X4_reach F σ5 p11 z4) fun v13 σ12 => bq (g_X0_has F σ12 v13 x1) fun v15 σ14 => if v15 = 0 then (k9 0 σ14) else (k9 (((1 : Int32) <<< (z4 &&& 31))) σ14)))) else (K z2 σ)
def g_X0_ringOf (F : Nat) (σ : MM) (a0 : Nat) (x1 : Int32) : Option (Int32 × MM) := if mT σ a0 = (0, 22) then ((gP σ a0 0 22 4).bind fun p1 => (gP σ p1 2 16 0).bind fun p2 => bq (g_X4_reach F σ p2 x1) fun v4 σ3 => l_X0_ringOf_17 (fun (r2_17 : Int32) (σ16 : MM) => some (r2_17, σ16)) F a0 x1 v4 F 0 0 σ3) else none
theorem wl_X0_ringOf_17 {B : Nat} {G : XG} {d : Nat} {rf : Int32} {σf : MM} (hd : 3 ≤ d) (C : xC B G yX0_ringOf cX0_ringOf 5 (some .int) d 0 0) (E : xEnd B G (some (.int rf)) σf 0 0) {K : Int32 → MM → Option (Int32 × MM)} {F : Nat} {a0 : Nat} {x1 : Int32} {x3 : Int32} (hK : ∀ (q2 : Int32) (σ : MM), K q2 σ = some (rf, σf) → xV B G 0 0 σ 69 [(2, .int q2)] []) : ∀ (f : Nat) (z2 : Int32) (z4 : Int32) (σ : MM), l_X0_ringOf_17 K F a0 x1 x3 f z2 z4 σ = some (rf, σf) → xV B G 0 0 σ 17 [(0, rv B a0), (1, .int x1), (2, .int z2), (3, .int x3), (4, .int z4)] [] := by
  intro f
  induction f with
  | zero =>
    intro z2 z4 σ h
    have h : none = some (rf, σf) := h
    cases h
  | succ f ih =>
    intro z2 z4 σ h
    rw [l_X0_ringOf_17.eq_2] at h
    refine r_iload (pc := 17) (i := 4) C dX0_ringOf_17 rfl ?_
    refine r_bipush (pc := 19) (v := 10) C dX0_ringOf_19 (by decide) ?_
    refine r_icmpge (pc := 21) (tgt := 69) C dX0_ringOf_21 (by decide) h (fun h => ?_) (fun h => ?_)
    · refine r_pick (lv' := [(2, .int z2)]) [2] rfl ?_
      exact hK _ _ h
    · refine r_iload_n (pc := 24) (i := 2) C dX0_ringOf_24 rfl rfl ?_
      refine r_iload_n (pc := 25) (i := 3) C dX0_ringOf_25 rfl rfl ?_
      refine r_iload (pc := 26) (i := 4) C dX0_ringOf_26 rfl ?_
      refine r_callSI (pc := 28) (As := [.int x3, .int z4]) (st := [.int z2]) C cs_X0_23_X0_has h (fun _ _ e => w_X0_has (Nat.le_refl 0) e) (Nat.le_trans (Nat.le_of_ble_eq_true rfl) hd) (Nat.le_of_ble_eq_true rfl) dX0_ringOf_28 (fun v6 σ5 h => ?_)
      refine r_jn (fun k9 => ∀ (w8 : Int32) (σ7 : MM), k9 w8 σ7 = some (rf, σf) → xV B G 0 0 σ7 61 [(0, rv B a0), (1, .int x1), (3, .int x3), (4, .int z4)] [.int w8, .int z2]) h (fun w8 σ7 h => ?_) (fun k9 hk9 h => ?_)
      · refine r_ior (pc := 61) C dX0_ringOf_61 ?_
        refine r_istore_n (pc := 62) (i := 2) C dX0_ringOf_62 rfl (by decide) ?_
        refine r_iinc (pc := 63) (i := 4) (v := (z4 + 1)) C dX0_ringOf_63 rfl rfl (by decide) ?_
        refine r_goto (pc := 66) (tgt := 17) C dX0_ringOf_66 (by decide) ?_
        refine r_pick (lv' := [(0, rv B a0), (1, .int x1), (2, .int (z2 ||| w8)), (3, .int x3), (4, .int (z4 + 1))]) [0, 1, 2, 3, 4] rfl ?_
        exact ih _ _ _ h
      · refine r_ifeq (pc := 31) (tgt := 60) C dX0_ringOf_31 (by decide) h (fun h => ?_) (fun h => ?_)
        · refine r_iconst (pc := 60) (v := 0) C dX0_ringOf_60 (by decide) ?_
          refine r_pick (lv' := [(0, rv B a0), (1, .int x1), (3, .int x3), (4, .int z4)]) [0, 1, 3, 4] rfl ?_
          exact hk9 _ _ h
        · refine r_aload_n (pc := 34) (i := 0) C dX0_ringOf_34 rfl rfl ?_
          refine r_getP (pc := 35) C fd_X0_66 rfl dX0_ringOf_35 h (fun p10 h => ?_)
          refine r_getP (pc := 38) C fd_X0_131 rfl dX0_ringOf_38 h (fun p11 h => ?_)
          refine r_iload (pc := 41) (i := 4) C dX0_ringOf_41 rfl ?_
          refine r_callVI (pc := 43) (As := [.int z4]) (st := [.int z2]) C cs_X0_279_X4_reach h (fun _ _ e => w_X4_reach (Nat.le_refl 2) e) (fun _ _ e => t_X4_reach e) (Nat.le_trans (Nat.le_of_ble_eq_true rfl) hd) (Nat.le_of_ble_eq_true rfl) dX0_ringOf_43 (fun v13 σ12 h => ?_)
          refine r_iload_n (pc := 46) (i := 1) C dX0_ringOf_46 rfl rfl ?_
          refine r_callSI (pc := 47) (As := [.int v13, .int x1]) (st := [.int z2]) C cs_X0_23_X0_has h (fun _ _ e => w_X0_has (Nat.le_refl 0) e) (Nat.le_trans (Nat.le_of_ble_eq_true rfl) hd) (Nat.le_of_ble_eq_true rfl) dX0_ringOf_47 (fun v15 σ14 h => ?_)
          refine r_ifeq (pc := 50) (tgt := 60) C dX0_ringOf_50 (by decide) h (fun h => ?_) (fun h => ?_)
          · refine r_iconst (pc := 60) (v := 0) C dX0_ringOf_60 (by decide) ?_
            refine r_pick (lv' := [(0, rv B a0), (1, .int x1), (3, .int x3), (4, .int z4)]) [0, 1, 3, 4] rfl ?_
            exact hk9 _ _ h
          · refine r_iconst (pc := 53) (v := 1) C dX0_ringOf_53 (by decide) ?_
            refine r_iload (pc := 54) (i := 4) C dX0_ringOf_54 rfl ?_
            refine r_ishl (pc := 56) C dX0_ringOf_56 ?_
            refine r_goto (pc := 57) (tgt := 61) C dX0_ringOf_57 (by decide) ?_
            refine r_pick (lv' := [(0, rv B a0), (1, .int x1), (3, .int x3), (4, .int z4)]) [0, 1, 3, 4] rfl ?_
            exact hk9 _ _ h
theorem w_X0_ringOf {B F : Nat} {d : Nat} {σ : MM} {a0 : Nat} {x1 : Int32} {rf : Int32} {σf : MM} (hd : 3 ≤ d) (h : g_X0_ringOf F σ a0 x1 = some (rf, σf)) : xMA B yX0_ringOf cX0_ringOf 5 (some .int) d 0 0 [rv B a0, .int x1] σ (some (.int rf)) σf := by
  refine xMA.of (by decide +kernel) (Nat.le_of_ble_eq_true rfl) (cat_rv (cat_int cat_nil)) (fun G C E => ?_)
  unfold g_X0_ringOf at h
  obtain ⟨-, h⟩ := r_ck h
  refine r_iconst (pc := 0) (v := 0) C dX0_ringOf_0 (by decide) ?_
  refine r_istore_n (pc := 1) (i := 2) C dX0_ringOf_1 rfl (by decide) ?_
  refine r_aload_n (pc := 2) (i := 0) C dX0_ringOf_2 rfl rfl ?_
  refine r_getP (pc := 3) C fd_X0_66 rfl dX0_ringOf_3 h (fun p1 h => ?_)
  refine r_getP (pc := 6) C fd_X0_131 rfl dX0_ringOf_6 h (fun p2 h => ?_)
  refine r_iload_n (pc := 9) (i := 1) C dX0_ringOf_9 rfl rfl ?_
  refine r_callVI (pc := 10) (As := [.int x1]) (st := []) C cs_X0_279_X4_reach h (fun _ _ e => w_X4_reach (Nat.le_refl 2) e) (fun _ _ e => t_X4_reach e) (Nat.le_trans (Nat.le_of_ble_eq_true rfl) hd) (Nat.le_of_ble_eq_true rfl) dX0_ringOf_10 (fun v4 σ3 h => ?_)
  refine r_istore_n (pc := 13) (i := 3) C dX0_ringOf_13 rfl (by decide) ?_
  refine r_iconst (pc := 14) (v := 0) C dX0_ringOf_14 (by decide) ?_
  refine r_istore (pc := 15) (i := 4) C dX0_ringOf_15 (by decide) ?_
  refine r_pick (lv' := [(0, rv B a0), (1, .int x1), (2, .int 0), (3, .int v4), (4, .int 0)]) [0, 1, 2, 3, 4] rfl ?_
  refine wl_X0_ringOf_17 hd C E (fun r2_17 σ16 h => ?_) _ _ _ _ h
  refine r_iload_n (pc := 69) (i := 2) C dX0_ringOf_69 rfl rfl ?_
  exact r_iret (pc := 70) C rfl dX0_ringOf_70 h E
theorem t_X0_ringOf {F : Nat} {σ : MM} {a0 : Nat} {x1 : Int32} {r : Int32 × MM} (h : g_X0_ringOf F σ a0 x1 = some r) : mT σ a0 = (0, 22) := by
  unfold g_X0_ringOf at h
  exact (r_ck h).1
theorem yd_X0_ringOf : xYd yX0_ringOf 1 := ⟨by decide +kernel, by decide +kernel, by decide +kernel⟩
theorem cs_X0_282_X0_ringOf : xCV RX0 282 yX0_ringOf cX0_ringOf 5 (some .int) 0 22 1 := ⟨by decide, by decide, _, rfl, yd_X0_ringOf, Or.inl ⟨rfl, lw_V q1181 q1183 qs43 q116 q1184⟩⟩
theorem yd_J6_numberOfTrailingZeros : xYd yJ6_numberOfTrailingZeros 1 := ⟨by decide +kernel, by decide +kernel, by decide +kernel⟩
theorem cs_X0_285_J6_numberOfTrailingZeros : xCS RX0 285 yJ6_numberOfTrailingZeros cJ6_numberOfTrailingZeros 2 (some .int) 1 := ⟨by decide, yd_J6_numberOfTrailingZeros, Or.inl (lw_S q1186 q1187 q141 q1188)⟩
def l_X0_rings_28 (K : Int32 → MM → Option (Int32 × MM)) (F : Nat) (a0 : Nat) : Nat → Int32 → Int32 → MM → Option (Int32 × MM)
  | 0, _, _, _ => none
  | f + 1, z2, z3, σ => if z3 < 10 then (bq (g_X0_isTold F σ a0 z3) fun v2 σ1 => jn (fun (w4 : Int32) (σ3 : MM) => l_X0_rings_28 K F a0 f ((z2 + w4)) ((z3 + 1)) σ3) (fun k5 => if v2 = 0 then (k5 0 σ1) else (bq (g_X0_ringOf F σ1 a0 z3) fun v7 σ6 => bq (g_J6_numberOfTrailingZeros F σ6 v7) fun v9 σ8 => if v9 = z3 then (k5 1 σ8) else (k5 0 σ8)))) else (K z2 σ)
def g_X0_rings (F : Nat) (σ : MM) (a0 : Nat) (x1 : Int32) : Option (Int32 × MM) := if mT σ a0 = (0, 22) then (if x1 = 100 then (l_X0_rings_28 (fun (r2_11 : Int32) (σ10 : MM) => some (r2_11, σ10)) F a0 F 0 0 σ) else (bq (g_X0_isTold F σ a0 x1) fun v13 σ12 => if v13 = 0 then (some ((-1), σ12)) else (bq (g_X0_ringOf F σ12 a0 x1) fun v15 σ14 => some (v15, σ14)))) else none
theorem wl_X0_rings_28 {B : Nat} {G : XG} {d : Nat} {rf : Int32} {σf : MM} (hd : 4 ≤ d) (C : xC B G yX0_rings cX0_rings 4 (some .int) d 0 0) (E : xEnd B G (some (.int rf)) σf 0 0) {K : Int32 → MM → Option (Int32 × MM)} {F : Nat} {a0 : Nat} (hK : ∀ (q2 : Int32) (σ : MM), K q2 σ = some (rf, σf) → xV B G 0 0 σ 68 [(2, .int q2)] []) : ∀ (f : Nat) (z2 : Int32) (z3 : Int32) (σ : MM), l_X0_rings_28 K F a0 f z2 z3 σ = some (rf, σf) → xV B G 0 0 σ 28 [(0, rv B a0), (2, .int z2), (3, .int z3)] [] := by
  intro f
  induction f with
  | zero =>
    intro z2 z3 σ h
    have h : none = some (rf, σf) := h
    cases h
  | succ f ih =>
    intro z2 z3 σ h
    rw [l_X0_rings_28.eq_2] at h
    refine r_iload_n (pc := 28) (i := 3) C dX0_rings_28 rfl rfl ?_
    refine r_bipush (pc := 29) (v := 10) C dX0_rings_29 (by decide) ?_
    refine r_icmpge (pc := 31) (tgt := 68) C dX0_rings_31 (by decide) h (fun h => ?_) (fun h => ?_)
    · refine r_pick (lv' := [(2, .int z2)]) [2] rfl ?_
      exact hK _ _ h
    · refine r_iload_n (pc := 34) (i := 2) C dX0_rings_34 rfl rfl ?_
      refine r_aload_n (pc := 35) (i := 0) C dX0_rings_35 rfl rfl ?_
      refine r_iload_n (pc := 36) (i := 3) C dX0_rings_36 rfl rfl ?_
      refine r_callVI (pc := 37) (As := [.int z3]) (st := [.int z2]) C cs_X0_123_X0_isTold h (fun _ _ e => w_X0_isTold (Nat.le_refl 1) e) (fun _ _ e => t_X0_isTold e) (Nat.le_trans (Nat.le_of_ble_eq_true rfl) hd) (Nat.le_of_ble_eq_true rfl) dX0_rings_37 (fun v2 σ1 h => ?_)
      refine r_jn (fun k9 => ∀ (w4 : Int32) (σ3 : MM), k9 w4 σ3 = some (rf, σf) → xV B G 0 0 σ3 60 [(0, rv B a0), (3, .int z3)] [.int w4, .int z2]) h (fun w4 σ3 h => ?_) (fun k5 hk5 h => ?_)
      · refine r_iadd (pc := 60) C dX0_rings_60 ?_
        refine r_istore_n (pc := 61) (i := 2) C dX0_rings_61 rfl (by decide) ?_
        refine r_iinc (pc := 62) (i := 3) (v := (z3 + 1)) C dX0_rings_62 rfl rfl (by decide) ?_
        refine r_goto (pc := 65) (tgt := 28) C dX0_rings_65 (by decide) ?_
        refine r_pick (lv' := [(0, rv B a0), (2, .int (z2 + w4)), (3, .int (z3 + 1))]) [0, 2, 3] rfl ?_
        exact ih _ _ _ h
      · refine r_ifeq (pc := 40) (tgt := 59) C dX0_rings_40 (by decide) h (fun h => ?_) (fun h => ?_)
        · refine r_iconst (pc := 59) (v := 0) C dX0_rings_59 (by decide) ?_
          refine r_pick (lv' := [(0, rv B a0), (3, .int z3)]) [0, 3] rfl ?_
          exact hk5 _ _ h
        · refine r_aload_n (pc := 43) (i := 0) C dX0_rings_43 rfl rfl ?_
          refine r_iload_n (pc := 44) (i := 3) C dX0_rings_44 rfl rfl ?_
          refine r_callVI (pc := 45) (As := [.int z3]) (st := [.int z2]) C cs_X0_282_X0_ringOf h (fun _ _ e => w_X0_ringOf (Nat.le_refl 3) e) (fun _ _ e => t_X0_ringOf e) (Nat.le_trans (Nat.le_of_ble_eq_true rfl) hd) (Nat.le_of_ble_eq_true rfl) dX0_rings_45 (fun v7 σ6 h => ?_)
          refine r_callSI (pc := 48) (As := [.int v7]) (st := [.int z2]) C cs_X0_285_J6_numberOfTrailingZeros h (fun _ _ e => w_J6_numberOfTrailingZeros (Nat.le_refl 0) e) (Nat.le_trans (Nat.le_of_ble_eq_true rfl) hd) (Nat.le_of_ble_eq_true rfl) dX0_rings_48 (fun v9 σ8 h => ?_)
          refine r_iload_n (pc := 51) (i := 3) C dX0_rings_51 rfl rfl ?_
          refine r_icmpne (pc := 52) (tgt := 59) C dX0_rings_52 (by decide) h (fun h => ?_) (fun h => ?_)
          · refine r_iconst (pc := 59) (v := 0) C dX0_rings_59 (by decide) ?_
            refine r_pick (lv' := [(0, rv B a0), (3, .int z3)]) [0, 3] rfl ?_
            exact hk5 _ _ h
          · refine r_iconst (pc := 55) (v := 1) C dX0_rings_55 (by decide) ?_
            refine r_goto (pc := 56) (tgt := 60) C dX0_rings_56 (by decide) ?_
            refine r_pick (lv' := [(0, rv B a0), (3, .int z3)]) [0, 3] rfl ?_
            exact hk5 _ _ h
theorem w_X0_rings {B F : Nat} {d : Nat} {σ : MM} {a0 : Nat} {x1 : Int32} {rf : Int32} {σf : MM} (hd : 4 ≤ d) (h : g_X0_rings F σ a0 x1 = some (rf, σf)) : xMA B yX0_rings cX0_rings 4 (some .int) d 0 0 [rv B a0, .int x1] σ (some (.int rf)) σf := by
  refine xMA.of (by decide +kernel) (Nat.le_of_ble_eq_true rfl) (cat_rv (cat_int cat_nil)) (fun G C E => ?_)
  unfold g_X0_rings at h
  obtain ⟨-, h⟩ := r_ck h
  refine r_iload_n (pc := 0) (i := 1) C dX0_rings_0 rfl rfl ?_
  refine r_bipush (pc := 1) (v := 100) C dX0_rings_1 (by decide) ?_
  refine r_icmpeq (pc := 3) (tgt := 24) C dX0_rings_3 (by decide) h (fun h => ?_) (fun h => ?_)
  · refine r_iconst (pc := 24) (v := 0) C dX0_rings_24 (by decide) ?_
    refine r_istore_n (pc := 25) (i := 2) C dX0_rings_25 rfl (by decide) ?_
    refine r_iconst (pc := 26) (v := 0) C dX0_rings_26 (by decide) ?_
    refine r_istore_n (pc := 27) (i := 3) C dX0_rings_27 rfl (by decide) ?_
    refine r_pick (lv' := [(0, rv B a0), (2, .int 0), (3, .int 0)]) [0, 2, 3] rfl ?_
    refine wl_X0_rings_28 hd C E (fun r2_11 σ10 h => ?_) _ _ _ _ h
    refine r_iload_n (pc := 68) (i := 2) C dX0_rings_68 rfl rfl ?_
    exact r_iret (pc := 69) C rfl dX0_rings_69 h E
  · refine r_aload_n (pc := 6) (i := 0) C dX0_rings_6 rfl rfl ?_
    refine r_iload_n (pc := 7) (i := 1) C dX0_rings_7 rfl rfl ?_
    refine r_callVI (pc := 8) (As := [.int x1]) (st := []) C cs_X0_123_X0_isTold h (fun _ _ e => w_X0_isTold (Nat.le_refl 1) e) (fun _ _ e => t_X0_isTold e) (Nat.le_trans (Nat.le_of_ble_eq_true rfl) hd) (Nat.le_of_ble_eq_true rfl) dX0_rings_8 (fun v13 σ12 h => ?_)
    refine r_ifeq (pc := 11) (tgt := 22) C dX0_rings_11 (by decide) h (fun h => ?_) (fun h => ?_)
    · refine r_iconst (pc := 22) (v := (-1)) C dX0_rings_22 (by decide) ?_
      exact r_iret (pc := 23) C rfl dX0_rings_23 h E
    · refine r_aload_n (pc := 14) (i := 0) C dX0_rings_14 rfl rfl ?_
      refine r_iload_n (pc := 15) (i := 1) C dX0_rings_15 rfl rfl ?_
      refine r_callVI (pc := 16) (As := [.int x1]) (st := []) C cs_X0_282_X0_ringOf h (fun _ _ e => w_X0_ringOf (Nat.le_refl 3) e) (fun _ _ e => t_X0_ringOf e) (Nat.le_trans (Nat.le_of_ble_eq_true rfl) hd) (Nat.le_of_ble_eq_true rfl) dX0_rings_16 (fun v15 σ14 h => ?_)
      refine r_goto (pc := 19) (tgt := 23) C dX0_rings_19 (by decide) ?_
      exact r_iret (pc := 23) C rfl dX0_rings_23 h E
theorem t_X0_rings {F : Nat} {σ : MM} {a0 : Nat} {x1 : Int32} {r : Int32 × MM} (h : g_X0_rings F σ a0 x1 = some r) : mT σ a0 = (0, 22) := by
  unfold g_X0_rings at h
  exact (r_ck h).1
def g_X0_off (F : Nat) (σ : MM) (a0 : Nat) : Option (Int32 × MM) := if mT σ a0 = (0, 22) then ((gP σ a0 0 22 4).bind fun p1 => (gI σ p1 2 16 3).bind fun v2 => if v2 = (-1) then (some ((-2), σ)) else ((gI σ a0 0 22 2).bind fun v3 => (gP σ a0 0 22 4).bind fun p4 => (gP σ p4 2 16 0).bind fun p5 => (gP σ a0 0 22 4).bind fun p6 => (gI σ p6 2 16 3).bind fun v7 => bq (g_X4_reach F σ p5 v7) fun v9 σ8 => some ((v3 &&& (v9 ^^^ (-1))), σ8))) else none
theorem w_X0_off {B F : Nat} {d : Nat} {σ : MM} {a0 : Nat} {rf : Int32} {σf : MM} (hd : 3 ≤ d) (h : g_X0_off F σ a0 = some (rf, σf)) : xMA B yX0_off cX0_off 1 (some .int) d 0 0 [rv B a0] σ (some (.int rf)) σf := by
  refine xMA.of (by decide +kernel) (Nat.le_of_ble_eq_true rfl) (cat_rv cat_nil) (fun G C E => ?_)
  unfold g_X0_off at h
  obtain ⟨-, h⟩ := r_ck h
  refine r_aload_n (pc := 0) (i := 0) C dX0_off_0 rfl rfl ?_
  refine r_getP (pc := 1) C fd_X0_66 rfl dX0_off_1 h (fun p1 h => ?_)
  refine r_getI (pc := 4) C fd_X0_137 rfl dX0_off_4 h (fun v2 h => ?_)
  refine r_iconst (pc := 7) (v := (-1)) C dX0_off_7 (by decide) ?_
  refine r_icmpne (pc := 8) (tgt := 16) C dX0_off_8 (by decide) h (fun h => ?_) (fun h => ?_)
  · refine r_aload_n (pc := 16) (i := 0) C dX0_off_16 rfl rfl ?_
    refine r_getI (pc := 17) C fd_X0_19 rfl dX0_off_17 h (fun v3 h => ?_)
    refine r_aload_n (pc := 20) (i := 0) C dX0_off_20 rfl rfl ?_
    refine r_getP (pc := 21) C fd_X0_66 rfl dX0_off_21 h (fun p4 h => ?_)
    refine r_getP (pc := 24) C fd_X0_131 rfl dX0_off_24 h (fun p5 h => ?_)
    refine r_aload_n (pc := 27) (i := 0) C dX0_off_27 rfl rfl ?_
    refine r_getP (pc := 28) C fd_X0_66 rfl dX0_off_28 h (fun p6 h => ?_)
    refine r_getI (pc := 31) C fd_X0_137 rfl dX0_off_31 h (fun v7 h => ?_)
    refine r_callVI (pc := 34) (As := [.int v7]) (st := [.int v3]) C cs_X0_279_X4_reach h (fun _ _ e => w_X4_reach (Nat.le_refl 2) e) (fun _ _ e => t_X4_reach e) (Nat.le_trans (Nat.le_of_ble_eq_true rfl) hd) (Nat.le_of_ble_eq_true rfl) dX0_off_34 (fun v9 σ8 h => ?_)
    refine r_iconst (pc := 37) (v := (-1)) C dX0_off_37 (by decide) ?_
    refine r_ixor (pc := 38) C dX0_off_38 ?_
    refine r_iand (pc := 39) C dX0_off_39 ?_
    exact r_iret (pc := 40) C rfl dX0_off_40 h E
  · refine r_bipush (pc := 11) (v := (-2)) C dX0_off_11 (by decide) ?_
    refine r_goto (pc := 13) (tgt := 40) C dX0_off_13 (by decide) ?_
    exact r_iret (pc := 40) C rfl dX0_off_40 h E
theorem t_X0_off {F : Nat} {σ : MM} {a0 : Nat} {r : Int32 × MM} (h : g_X0_off F σ a0 = some r) : mT σ a0 = (0, 22) := by
  unfold g_X0_off at h
  exact (r_ck h).1
theorem cs_X0_288_X3_canGo : xCV RX0 288 yX3_canGo cX3_canGo 1 (some .boolean) 2 16 0 := ⟨by decide, by decide, _, rfl, yd_X3_canGo, Or.inl ⟨rfl, lw_V q1198 q933 q934 q119 q935⟩⟩
theorem cs_X0_291_X3_hourGoes : xCV RX0 291 yX3_hourGoes cX3_hourGoes 2 (some .int) 2 16 0 := ⟨by decide, by decide, _, rfl, yd_X3_hourGoes, Or.inl ⟨rfl, lw_V q1199 q937 q938 q119 q939⟩⟩
def l_X0_when_48 (K : MM → Option (Int32 × MM)) (F : Nat) (a0 : Nat) (x1 : Int32) (x2 : Int32) : Nat → Int32 → MM → Option (Int32 × MM)
  | 0, _, _ => none
  | f + 1, z3, σ => if x2 < z3 then (K σ) else ((gP σ a0 0 22 5).bind fun p11 => bq (g_X3_canGo F σ p11) fun v13 σ12 => if v13 = 0 then (K σ12) else ((gP σ12 a0 0 22 5).bind fun p14 => bq (g_X3_hourGoes F σ12 p14) fun v16 σ15 => if v16 = x1 then (some (z3, σ15)) else (l_X0_when_48 K F a0 x1 x2 f ((z3 + 1)) σ15)))
def g_X0_when (F : Nat) (σ : MM) (a0 : Nat) (x1 : Int32) (x2 : Int32) : Option (Int32 × MM) := if mT σ a0 = (0, 22) then (bq (g_X0_isTold F σ a0 x1) fun v2 σ1 => if v2 = 0 then (some ((-1), σ1)) else (bq (g_X0_within F σ1 x2 1 240) fun v4 σ3 => if v4 = 0 then (some ((-1), σ3)) else ((gP σ3 a0 0 22 4).bind fun p5 => (gI σ3 p5 2 16 3).bind fun v6 => if v6 = x1 then (some (0, σ3)) else ((gP σ3 a0 0 22 5).bind fun p7 => (gP σ3 a0 0 22 4).bind fun p8 => bq (g_X3_takes F σ3 p7 p8) fun p10 σ9 => l_X0_when_48 (fun (σ17 : MM) => some ((-2), σ17)) F a0 x1 x2 F 1 σ9)))) else none
theorem wl_X0_when_48 {B : Nat} {G : XG} {d : Nat} {rf : Int32} {σf : MM} (hd : 137 ≤ d) (C : xC B G yX0_when cX0_when 4 (some .int) d 0 0) (E : xEnd B G (some (.int rf)) σf 0 0) {K : MM → Option (Int32 × MM)} {F : Nat} {a0 : Nat} {x1 : Int32} {x2 : Int32} (hK : ∀ (σ : MM), K σ = some (rf, σf) → xV B G 0 0 σ 82 [] []) : ∀ (f : Nat) (z3 : Int32) (σ : MM), l_X0_when_48 K F a0 x1 x2 f z3 σ = some (rf, σf) → xV B G 0 0 σ 48 [(0, rv B a0), (1, .int x1), (2, .int x2), (3, .int z3)] [] := by
  intro f
  induction f with
  | zero =>
    intro z3 σ h
    have h : none = some (rf, σf) := h
    cases h
  | succ f ih =>
    intro z3 σ h
    rw [l_X0_when_48.eq_2] at h
    refine r_iload_n (pc := 48) (i := 3) C dX0_when_48 rfl rfl ?_
    refine r_iload_n (pc := 49) (i := 2) C dX0_when_49 rfl rfl ?_
    refine r_icmpgt (pc := 50) (tgt := 82) C dX0_when_50 (by decide) h (fun h => ?_) (fun h => ?_)
    · refine r_pick (lv' := []) [] rfl ?_
      exact hK _ h
    · refine r_aload_n (pc := 53) (i := 0) C dX0_when_53 rfl rfl ?_
      refine r_getP (pc := 54) C fd_X0_70 rfl dX0_when_54 h (fun p11 h => ?_)
      refine r_callVI (pc := 57) (As := []) (st := []) C cs_X0_288_X3_canGo h (fun _ _ e => w_X3_canGo (Nat.le_refl 0) e) (fun _ _ e => t_X3_canGo e) (Nat.le_trans (Nat.le_of_ble_eq_true rfl) hd) (Nat.le_of_ble_eq_true rfl) dX0_when_57 (fun v13 σ12 h => ?_)
      refine r_ifeq (pc := 60) (tgt := 82) C dX0_when_60 (by decide) h (fun h => ?_) (fun h => ?_)
      · refine r_pick (lv' := []) [] rfl ?_
        exact hK _ h
      · refine r_aload_n (pc := 63) (i := 0) C dX0_when_63 rfl rfl ?_
        refine r_getP (pc := 64) C fd_X0_70 rfl dX0_when_64 h (fun p14 h => ?_)
        refine r_callVI (pc := 67) (As := []) (st := []) C cs_X0_291_X3_hourGoes h (fun _ _ e => w_X3_hourGoes (Nat.le_refl 136) e) (fun _ _ e => t_X3_hourGoes e) (Nat.le_trans (Nat.le_of_ble_eq_true rfl) hd) (Nat.le_of_ble_eq_true rfl) dX0_when_67 (fun v16 σ15 h => ?_)
        refine r_iload_n (pc := 70) (i := 1) C dX0_when_70 rfl rfl ?_
        refine r_icmpne (pc := 71) (tgt := 76) C dX0_when_71 (by decide) h (fun h => ?_) (fun h => ?_)
        · refine r_iinc (pc := 76) (i := 3) (v := (z3 + 1)) C dX0_when_76 rfl rfl (by decide) ?_
          refine r_goto (pc := 79) (tgt := 48) C dX0_when_79 (by decide) ?_
          refine r_pick (lv' := [(0, rv B a0), (1, .int x1), (2, .int x2), (3, .int (z3 + 1))]) [0, 1, 2, 3] rfl ?_
          exact ih _ _ h
        · refine r_iload_n (pc := 74) (i := 3) C dX0_when_74 rfl rfl ?_
          exact r_iret (pc := 75) C rfl dX0_when_75 h E
theorem w_X0_when {B F : Nat} {d : Nat} {σ : MM} {a0 : Nat} {x1 : Int32} {x2 : Int32} {rf : Int32} {σf : MM} (hd : 137 ≤ d) (h : g_X0_when F σ a0 x1 x2 = some (rf, σf)) : xMA B yX0_when cX0_when 4 (some .int) d 0 0 [rv B a0, .int x1, .int x2] σ (some (.int rf)) σf := by
  refine xMA.of (by decide +kernel) (Nat.le_of_ble_eq_true rfl) (cat_rv (cat_int (cat_int cat_nil))) (fun G C E => ?_)
  unfold g_X0_when at h
  obtain ⟨-, h⟩ := r_ck h
  refine r_aload_n (pc := 0) (i := 0) C dX0_when_0 rfl rfl ?_
  refine r_iload_n (pc := 1) (i := 1) C dX0_when_1 rfl rfl ?_
  refine r_callVI (pc := 2) (As := [.int x1]) (st := []) C cs_X0_123_X0_isTold h (fun _ _ e => w_X0_isTold (Nat.le_refl 1) e) (fun _ _ e => t_X0_isTold e) (Nat.le_trans (Nat.le_of_ble_eq_true rfl) hd) (Nat.le_of_ble_eq_true rfl) dX0_when_2 (fun v2 σ1 h => ?_)
  refine r_ifeq (pc := 5) (tgt := 19) C dX0_when_5 (by decide) h (fun h => ?_) (fun h => ?_)
  · refine r_iconst (pc := 19) (v := (-1)) C dX0_when_19 (by decide) ?_
    exact r_iret (pc := 20) C rfl dX0_when_20 h E
  · refine r_iload_n (pc := 8) (i := 2) C dX0_when_8 rfl rfl ?_
    refine r_iconst (pc := 9) (v := 1) C dX0_when_9 (by decide) ?_
    refine r_sipush (pc := 10) (v := 240) C dX0_when_10 (by decide) ?_
    refine r_callSI (pc := 13) (As := [.int x2, .int 1, .int 240]) (st := []) C cs_X0_127_X0_within h (fun _ _ e => w_X0_within (Nat.le_refl 0) e) (Nat.le_trans (Nat.le_of_ble_eq_true rfl) hd) (Nat.le_of_ble_eq_true rfl) dX0_when_13 (fun v4 σ3 h => ?_)
    refine r_ifne (pc := 16) (tgt := 21) C dX0_when_16 (by decide) h (fun h => ?_) (fun h => ?_)
    · refine r_aload_n (pc := 21) (i := 0) C dX0_when_21 rfl rfl ?_
      refine r_getP (pc := 22) C fd_X0_66 rfl dX0_when_22 h (fun p5 h => ?_)
      refine r_getI (pc := 25) C fd_X0_137 rfl dX0_when_25 h (fun v6 h => ?_)
      refine r_iload_n (pc := 28) (i := 1) C dX0_when_28 rfl rfl ?_
      refine r_icmpne (pc := 29) (tgt := 34) C dX0_when_29 (by decide) h (fun h => ?_) (fun h => ?_)
      · refine r_aload_n (pc := 34) (i := 0) C dX0_when_34 rfl rfl ?_
        refine r_getP (pc := 35) C fd_X0_70 rfl dX0_when_35 h (fun p7 h => ?_)
        refine r_aload_n (pc := 38) (i := 0) C dX0_when_38 rfl rfl ?_
        refine r_getP (pc := 39) C fd_X0_66 rfl dX0_when_39 h (fun p8 h => ?_)
        refine r_callVP (pc := 42) (As := [rv B p8]) (st := []) C cs_X0_184_X3_takes h (fun _ _ e => w_X3_takes (Nat.le_refl 1) e) (fun _ _ e => t_X3_takes e) (Nat.le_trans (Nat.le_of_ble_eq_true rfl) hd) (Nat.le_of_ble_eq_true rfl) dX0_when_42 (fun p10 σ9 h => ?_)
        refine r_pop (pc := 45) C dX0_when_45 ?_
        refine r_iconst (pc := 46) (v := 1) C dX0_when_46 (by decide) ?_
        refine r_istore_n (pc := 47) (i := 3) C dX0_when_47 rfl (by decide) ?_
        refine r_pick (lv' := [(0, rv B a0), (1, .int x1), (2, .int x2), (3, .int 1)]) [0, 1, 2, 3] rfl ?_
        refine wl_X0_when_48 hd C E (fun  σ17 h => ?_) _ _ _ h
        refine r_bipush (pc := 82) (v := (-2)) C dX0_when_82 (by decide) ?_
        exact r_iret (pc := 84) C rfl dX0_when_84 h E
      · refine r_iconst (pc := 32) (v := 0) C dX0_when_32 (by decide) ?_
        exact r_iret (pc := 33) C rfl dX0_when_33 h E
    · refine r_iconst (pc := 19) (v := (-1)) C dX0_when_19 (by decide) ?_
      exact r_iret (pc := 20) C rfl dX0_when_20 h E
theorem t_X0_when {F : Nat} {σ : MM} {a0 : Nat} {x1 : Int32} {x2 : Int32} {r : Int32 × MM} (h : g_X0_when F σ a0 x1 x2 = some r) : mT σ a0 = (0, 22) := by
  unfold g_X0_when at h
  exact (r_ck h).1
theorem fd_X0_294 : xFg RX0 294 2 16 8 := ⟨_, rfl, rfl, by decide, by decide, in_X3, Or.inr ⟨_, in_nest q233 rfl⟩⟩
def l_X0_wedding_43 (K : MM → Option (Int32 × MM)) (F : Nat) (a0 : Nat) (x1 : Int32) (x2 : Int32) (x3 : Int32) : Nat → Int32 → Int32 → Int32 → MM → Option (Int32 × MM)
  | 0, _, _, _, _ => none
  | f + 1, z4, z5, z6, σ => if z6 < x3 then ((gP σ a0 0 22 5).bind fun p9 => bq (g_X3_canGo F σ p9) fun v11 σ10 => if v11 = 0 then (K σ10) else ((gP σ10 a0 0 22 5).bind fun p12 => (gI σ10 p12 2 16 8).bind fun v13 => (gP σ10 a0 0 22 5).bind fun p14 => bq (g_X3_hourGoes F σ10 p14) fun v16 σ15 => jn (fun (w18 : Int32) (σ17 : MM) => jn (fun (w21 : Int32) (σ20 : MM) => if w18 = (-1) then (l_X0_wedding_43 K F a0 x1 x2 x3 f w18 w21 ((z6 + 1)) σ20) else (if w18 = w21 then (some (w18, σ20)) else (l_X0_wedding_43 K F a0 x1 x2 x3 f w18 w21 ((z6 + 1)) σ20))) (fun k22 => if v16 = x2 then (k22 v13 σ17) else (k22 z5 σ17))) (fun k19 => if v16 = x1 then (k19 v13 σ15) else (k19 z4 σ15)))) else (K σ)
def g_X0_wedding (F : Nat) (σ : MM) (a0 : Nat) (x1 : Int32) (x2 : Int32) (x3 : Int32) : Option (Int32 × MM) := if mT σ a0 = (0, 22) then (bq (g_X0_areTwo F σ a0 x1 x2) fun v2 σ1 => if v2 = 0 then (some ((-1), σ1)) else (bq (g_X0_within F σ1 x3 1 240) fun v4 σ3 => if v4 = 0 then (some ((-1), σ3)) else ((gP σ3 a0 0 22 5).bind fun p5 => (gP σ3 a0 0 22 4).bind fun p6 => bq (g_X3_takes F σ3 p5 p6) fun p8 σ7 => l_X0_wedding_43 (fun (σ23 : MM) => some ((-2), σ23)) F a0 x1 x2 x3 F ((-1)) ((-1)) 0 σ7))) else none
theorem wl_X0_wedding_43 {B : Nat} {G : XG} {d : Nat} {rf : Int32} {σf : MM} (hd : 137 ≤ d) (C : xC B G yX0_wedding cX0_wedding 9 (some .int) d 0 0) (E : xEnd B G (some (.int rf)) σf 0 0) {K : MM → Option (Int32 × MM)} {F : Nat} {a0 : Nat} {x1 : Int32} {x2 : Int32} {x3 : Int32} (hK : ∀ (σ : MM), K σ = some (rf, σf) → xV B G 0 0 σ 129 [] []) : ∀ (f : Nat) (z4 : Int32) (z5 : Int32) (z6 : Int32) (σ : MM), l_X0_wedding_43 K F a0 x1 x2 x3 f z4 z5 z6 σ = some (rf, σf) → xV B G 0 0 σ 43 [(0, rv B a0), (1, .int x1), (2, .int x2), (3, .int x3), (4, .int z4), (5, .int z5), (6, .int z6)] [] := by
  intro f
  induction f with
  | zero =>
    intro z4 z5 z6 σ h
    have h : none = some (rf, σf) := h
    cases h
  | succ f ih =>
    intro z4 z5 z6 σ h
    rw [l_X0_wedding_43.eq_2] at h
    refine r_iload (pc := 43) (i := 6) C dX0_wedding_43 rfl ?_
    refine r_iload_n (pc := 45) (i := 3) C dX0_wedding_45 rfl rfl ?_
    refine r_icmpge (pc := 46) (tgt := 129) C dX0_wedding_46 (by decide) h (fun h => ?_) (fun h => ?_)
    · refine r_pick (lv' := []) [] rfl ?_
      exact hK _ h
    · refine r_aload_n (pc := 49) (i := 0) C dX0_wedding_49 rfl rfl ?_
      refine r_getP (pc := 50) C fd_X0_70 rfl dX0_wedding_50 h (fun p9 h => ?_)
      refine r_callVI (pc := 53) (As := []) (st := []) C cs_X0_288_X3_canGo h (fun _ _ e => w_X3_canGo (Nat.le_refl 0) e) (fun _ _ e => t_X3_canGo e) (Nat.le_trans (Nat.le_of_ble_eq_true rfl) hd) (Nat.le_of_ble_eq_true rfl) dX0_wedding_53 (fun v11 σ10 h => ?_)
      refine r_ifeq (pc := 56) (tgt := 129) C dX0_wedding_56 (by decide) h (fun h => ?_) (fun h => ?_)
      · refine r_pick (lv' := []) [] rfl ?_
        exact hK _ h
      · refine r_aload_n (pc := 59) (i := 0) C dX0_wedding_59 rfl rfl ?_
        refine r_getP (pc := 60) C fd_X0_70 rfl dX0_wedding_60 h (fun p12 h => ?_)
        refine r_getI (pc := 63) C fd_X0_294 rfl dX0_wedding_63 h (fun v13 h => ?_)
        refine r_istore (pc := 66) (i := 7) C dX0_wedding_66 (by decide) ?_
        refine r_aload_n (pc := 68) (i := 0) C dX0_wedding_68 rfl rfl ?_
        refine r_getP (pc := 69) C fd_X0_70 rfl dX0_wedding_69 h (fun p14 h => ?_)
        refine r_callVI (pc := 72) (As := []) (st := []) C cs_X0_291_X3_hourGoes h (fun _ _ e => w_X3_hourGoes (Nat.le_refl 136) e) (fun _ _ e => t_X3_hourGoes e) (Nat.le_trans (Nat.le_of_ble_eq_true rfl) hd) (Nat.le_of_ble_eq_true rfl) dX0_wedding_72 (fun v16 σ15 h => ?_)
        refine r_istore (pc := 75) (i := 8) C dX0_wedding_75 (by decide) ?_
        refine r_iload (pc := 77) (i := 8) C dX0_wedding_77 rfl ?_
        refine r_iload_n (pc := 79) (i := 1) C dX0_wedding_79 rfl rfl ?_
        refine r_jn (fun k9 => ∀ (w18 : Int32) (σ17 : MM), k9 w18 σ17 = some (rf, σf) → xV B G 0 0 σ17 90 [(0, rv B a0), (1, .int x1), (2, .int x2), (3, .int x3), (5, .int z5), (6, .int z6), (7, .int v13), (8, .int v16)] [.int w18]) h (fun w18 σ17 h => ?_) (fun k19 hk19 h => ?_)
        · refine r_istore (pc := 90) (i := 4) C dX0_wedding_90 (by decide) ?_
          refine r_iload (pc := 92) (i := 8) C dX0_wedding_92 rfl ?_
          refine r_iload_n (pc := 94) (i := 2) C dX0_wedding_94 rfl rfl ?_
          refine r_jn (fun k9 => ∀ (w21 : Int32) (σ20 : MM), k9 w21 σ20 = some (rf, σf) → xV B G 0 0 σ20 105 [(0, rv B a0), (1, .int x1), (2, .int x2), (3, .int x3), (4, .int w18), (6, .int z6)] [.int w21]) h (fun w21 σ20 h => ?_) (fun k22 hk22 h => ?_)
          · refine r_istore (pc := 105) (i := 5) C dX0_wedding_105 (by decide) ?_
            refine r_iload (pc := 107) (i := 4) C dX0_wedding_107 rfl ?_
            refine r_iconst (pc := 109) (v := (-1)) C dX0_wedding_109 (by decide) ?_
            refine r_icmpeq (pc := 110) (tgt := 123) C dX0_wedding_110 (by decide) h (fun h => ?_) (fun h => ?_)
            · refine r_iinc (pc := 123) (i := 6) (v := (z6 + 1)) C dX0_wedding_123 rfl rfl (by decide) ?_
              refine r_goto (pc := 126) (tgt := 43) C dX0_wedding_126 (by decide) ?_
              refine r_pick (lv' := [(0, rv B a0), (1, .int x1), (2, .int x2), (3, .int x3), (4, .int w18), (5, .int w21), (6, .int (z6 + 1))]) [0, 1, 2, 3, 4, 5, 6] rfl ?_
              exact ih _ _ _ _ h
            · refine r_iload (pc := 113) (i := 4) C dX0_wedding_113 rfl ?_
              refine r_iload (pc := 115) (i := 5) C dX0_wedding_115 rfl ?_
              refine r_icmpne (pc := 117) (tgt := 123) C dX0_wedding_117 (by decide) h (fun h => ?_) (fun h => ?_)
              · refine r_iinc (pc := 123) (i := 6) (v := (z6 + 1)) C dX0_wedding_123 rfl rfl (by decide) ?_
                refine r_goto (pc := 126) (tgt := 43) C dX0_wedding_126 (by decide) ?_
                refine r_pick (lv' := [(0, rv B a0), (1, .int x1), (2, .int x2), (3, .int x3), (4, .int w18), (5, .int w21), (6, .int (z6 + 1))]) [0, 1, 2, 3, 4, 5, 6] rfl ?_
                exact ih _ _ _ _ h
              · refine r_iload (pc := 120) (i := 4) C dX0_wedding_120 rfl ?_
                exact r_iret (pc := 122) C rfl dX0_wedding_122 h E
          · refine r_icmpne (pc := 95) (tgt := 103) C dX0_wedding_95 (by decide) h (fun h => ?_) (fun h => ?_)
            · refine r_iload (pc := 103) (i := 5) C dX0_wedding_103 rfl ?_
              refine r_pick (lv' := [(0, rv B a0), (1, .int x1), (2, .int x2), (3, .int x3), (4, .int w18), (6, .int z6)]) [0, 1, 2, 3, 4, 6] rfl ?_
              exact hk22 _ _ h
            · refine r_iload (pc := 98) (i := 7) C dX0_wedding_98 rfl ?_
              refine r_goto (pc := 100) (tgt := 105) C dX0_wedding_100 (by decide) ?_
              refine r_pick (lv' := [(0, rv B a0), (1, .int x1), (2, .int x2), (3, .int x3), (4, .int w18), (6, .int z6)]) [0, 1, 2, 3, 4, 6] rfl ?_
              exact hk22 _ _ h
        · refine r_icmpne (pc := 80) (tgt := 88) C dX0_wedding_80 (by decide) h (fun h => ?_) (fun h => ?_)
          · refine r_iload (pc := 88) (i := 4) C dX0_wedding_88 rfl ?_
            refine r_pick (lv' := [(0, rv B a0), (1, .int x1), (2, .int x2), (3, .int x3), (5, .int z5), (6, .int z6), (7, .int v13), (8, .int v16)]) [0, 1, 2, 3, 5, 6, 7, 8] rfl ?_
            exact hk19 _ _ h
          · refine r_iload (pc := 83) (i := 7) C dX0_wedding_83 rfl ?_
            refine r_goto (pc := 85) (tgt := 90) C dX0_wedding_85 (by decide) ?_
            refine r_pick (lv' := [(0, rv B a0), (1, .int x1), (2, .int x2), (3, .int x3), (5, .int z5), (6, .int z6), (7, .int v13), (8, .int v16)]) [0, 1, 2, 3, 5, 6, 7, 8] rfl ?_
            exact hk19 _ _ h
theorem w_X0_wedding {B F : Nat} {d : Nat} {σ : MM} {a0 : Nat} {x1 : Int32} {x2 : Int32} {x3 : Int32} {rf : Int32} {σf : MM} (hd : 137 ≤ d) (h : g_X0_wedding F σ a0 x1 x2 x3 = some (rf, σf)) : xMA B yX0_wedding cX0_wedding 9 (some .int) d 0 0 [rv B a0, .int x1, .int x2, .int x3] σ (some (.int rf)) σf := by
  refine xMA.of (by decide +kernel) (Nat.le_of_ble_eq_true rfl) (cat_rv (cat_int (cat_int (cat_int cat_nil)))) (fun G C E => ?_)
  unfold g_X0_wedding at h
  obtain ⟨-, h⟩ := r_ck h
  refine r_aload_n (pc := 0) (i := 0) C dX0_wedding_0 rfl rfl ?_
  refine r_iload_n (pc := 1) (i := 1) C dX0_wedding_1 rfl rfl ?_
  refine r_iload_n (pc := 2) (i := 2) C dX0_wedding_2 rfl rfl ?_
  refine r_callVI (pc := 3) (As := [.int x1, .int x2]) (st := []) C cs_X0_223_X0_areTwo h (fun _ _ e => w_X0_areTwo (Nat.le_refl 2) e) (fun _ _ e => t_X0_areTwo e) (Nat.le_trans (Nat.le_of_ble_eq_true rfl) hd) (Nat.le_of_ble_eq_true rfl) dX0_wedding_3 (fun v2 σ1 h => ?_)
  refine r_ifeq (pc := 6) (tgt := 20) C dX0_wedding_6 (by decide) h (fun h => ?_) (fun h => ?_)
  · refine r_iconst (pc := 20) (v := (-1)) C dX0_wedding_20 (by decide) ?_
    exact r_iret (pc := 21) C rfl dX0_wedding_21 h E
  · refine r_iload_n (pc := 9) (i := 3) C dX0_wedding_9 rfl rfl ?_
    refine r_iconst (pc := 10) (v := 1) C dX0_wedding_10 (by decide) ?_
    refine r_sipush (pc := 11) (v := 240) C dX0_wedding_11 (by decide) ?_
    refine r_callSI (pc := 14) (As := [.int x3, .int 1, .int 240]) (st := []) C cs_X0_127_X0_within h (fun _ _ e => w_X0_within (Nat.le_refl 0) e) (Nat.le_trans (Nat.le_of_ble_eq_true rfl) hd) (Nat.le_of_ble_eq_true rfl) dX0_wedding_14 (fun v4 σ3 h => ?_)
    refine r_ifne (pc := 17) (tgt := 22) C dX0_wedding_17 (by decide) h (fun h => ?_) (fun h => ?_)
    · refine r_aload_n (pc := 22) (i := 0) C dX0_wedding_22 rfl rfl ?_
      refine r_getP (pc := 23) C fd_X0_70 rfl dX0_wedding_23 h (fun p5 h => ?_)
      refine r_aload_n (pc := 26) (i := 0) C dX0_wedding_26 rfl rfl ?_
      refine r_getP (pc := 27) C fd_X0_66 rfl dX0_wedding_27 h (fun p6 h => ?_)
      refine r_callVP (pc := 30) (As := [rv B p6]) (st := []) C cs_X0_184_X3_takes h (fun _ _ e => w_X3_takes (Nat.le_refl 1) e) (fun _ _ e => t_X3_takes e) (Nat.le_trans (Nat.le_of_ble_eq_true rfl) hd) (Nat.le_of_ble_eq_true rfl) dX0_wedding_30 (fun p8 σ7 h => ?_)
      refine r_pop (pc := 33) C dX0_wedding_33 ?_
      refine r_iconst (pc := 34) (v := (-1)) C dX0_wedding_34 (by decide) ?_
      refine r_istore (pc := 35) (i := 4) C dX0_wedding_35 (by decide) ?_
      refine r_iconst (pc := 37) (v := (-1)) C dX0_wedding_37 (by decide) ?_
      refine r_istore (pc := 38) (i := 5) C dX0_wedding_38 (by decide) ?_
      refine r_iconst (pc := 40) (v := 0) C dX0_wedding_40 (by decide) ?_
      refine r_istore (pc := 41) (i := 6) C dX0_wedding_41 (by decide) ?_
      refine r_pick (lv' := [(0, rv B a0), (1, .int x1), (2, .int x2), (3, .int x3), (4, .int (-1)), (5, .int (-1)), (6, .int 0)]) [0, 1, 2, 3, 4, 5, 6] rfl ?_
      refine wl_X0_wedding_43 hd C E (fun  σ23 h => ?_) _ _ _ _ _ h
      refine r_bipush (pc := 129) (v := (-2)) C dX0_wedding_129 (by decide) ?_
      exact r_iret (pc := 131) C rfl dX0_wedding_131 h E
    · refine r_iconst (pc := 20) (v := (-1)) C dX0_wedding_20 (by decide) ?_
      exact r_iret (pc := 21) C rfl dX0_wedding_21 h E
theorem t_X0_wedding {F : Nat} {σ : MM} {a0 : Nat} {x1 : Int32} {x2 : Int32} {x3 : Int32} {r : Int32 × MM} (h : g_X0_wedding F σ a0 x1 x2 x3 = some r) : mT σ a0 = (0, 22) := by
  unfold g_X0_wedding at h
  exact (r_ck h).1
def l_X0_longest_2_7 (K : Int32 → MM → Option (Int32 × MM)) (F : Nat) (a0 : Nat) : Nat → Int32 → Int32 → Int32 → MM → Option (Int32 × MM)
  | 0, _, _, _, _ => none
  | f + 1, z1, z2, z3, σ => if z3 < 10 then (bq (g_X0_isTold F σ a0 z3) fun v2 σ1 => if v2 = 0 then (l_X0_longest_2_7 K F a0 f z1 z2 ((z3 + 1)) σ1) else ((gP σ1 a0 0 22 4).bind fun p3 => (gP σ1 p3 2 16 1).bind fun p4 => (aI σ1 p4 20 z3).bind fun v5 => if z2 < v5 then ((gP σ1 a0 0 22 4).bind fun p6 => (gP σ1 p6 2 16 1).bind fun p7 => (aI σ1 p7 20 z3).bind fun v8 => l_X0_longest_2_7 K F a0 f z3 v8 ((z3 + 1)) σ1) else (l_X0_longest_2_7 K F a0 f z1 z2 ((z3 + 1)) σ1))) else (K z1 σ)
def g_X0_longest_2 (F : Nat) (σ : MM) (a0 : Nat) : Option (Int32 × MM) := if mT σ a0 = (0, 22) then (l_X0_longest_2_7 (fun (r1_10 : Int32) (σ9 : MM) => some (r1_10, σ9)) F a0 F ((-2)) 0 0 σ) else none
theorem wl_X0_longest_2_7 {B : Nat} {G : XG} {d : Nat} {rf : Int32} {σf : MM} (hd : 2 ≤ d) (C : xC B G yX0_longest_2 cX0_longest_2 4 (some .int) d 0 0) (E : xEnd B G (some (.int rf)) σf 0 0) {K : Int32 → MM → Option (Int32 × MM)} {F : Nat} {a0 : Nat} (hK : ∀ (q1 : Int32) (σ : MM), K q1 σ = some (rf, σf) → xV B G 0 0 σ 55 [(1, .int q1)] []) : ∀ (f : Nat) (z1 : Int32) (z2 : Int32) (z3 : Int32) (σ : MM), l_X0_longest_2_7 K F a0 f z1 z2 z3 σ = some (rf, σf) → xV B G 0 0 σ 7 [(0, rv B a0), (1, .int z1), (2, .int z2), (3, .int z3)] [] := by
  intro f
  induction f with
  | zero =>
    intro z1 z2 z3 σ h
    have h : none = some (rf, σf) := h
    cases h
  | succ f ih =>
    intro z1 z2 z3 σ h
    rw [l_X0_longest_2_7.eq_2] at h
    refine r_iload_n (pc := 7) (i := 3) C dX0_longest_2_7 rfl rfl ?_
    refine r_bipush (pc := 8) (v := 10) C dX0_longest_2_8 (by decide) ?_
    refine r_icmpge (pc := 10) (tgt := 55) C dX0_longest_2_10 (by decide) h (fun h => ?_) (fun h => ?_)
    · refine r_pick (lv' := [(1, .int z1)]) [1] rfl ?_
      exact hK _ _ h
    · refine r_aload_n (pc := 13) (i := 0) C dX0_longest_2_13 rfl rfl ?_
      refine r_iload_n (pc := 14) (i := 3) C dX0_longest_2_14 rfl rfl ?_
      refine r_callVI (pc := 15) (As := [.int z3]) (st := []) C cs_X0_123_X0_isTold h (fun _ _ e => w_X0_isTold (Nat.le_refl 1) e) (fun _ _ e => t_X0_isTold e) (Nat.le_trans (Nat.le_of_ble_eq_true rfl) hd) (Nat.le_of_ble_eq_true rfl) dX0_longest_2_15 (fun v2 σ1 h => ?_)
      refine r_ifeq (pc := 18) (tgt := 49) C dX0_longest_2_18 (by decide) h (fun h => ?_) (fun h => ?_)
      · refine r_iinc (pc := 49) (i := 3) (v := (z3 + 1)) C dX0_longest_2_49 rfl rfl (by decide) ?_
        refine r_goto (pc := 52) (tgt := 7) C dX0_longest_2_52 (by decide) ?_
        refine r_pick (lv' := [(0, rv B a0), (1, .int z1), (2, .int z2), (3, .int (z3 + 1))]) [0, 1, 2, 3] rfl ?_
        exact ih _ _ _ _ h
      · refine r_aload_n (pc := 21) (i := 0) C dX0_longest_2_21 rfl rfl ?_
        refine r_getP (pc := 22) C fd_X0_66 rfl dX0_longest_2_22 h (fun p3 h => ?_)
        refine r_getP (pc := 25) C fd_X0_211 rfl dX0_longest_2_25 h (fun p4 h => ?_)
        refine r_iload_n (pc := 28) (i := 3) C dX0_longest_2_28 rfl rfl ?_
        refine r_iald (pc := 29) C dX0_longest_2_29 h (fun v5 h => ?_)
        refine r_iload_n (pc := 30) (i := 2) C dX0_longest_2_30 rfl rfl ?_
        refine r_icmpgt (pc := 31) (tgt := 37) C dX0_longest_2_31 (by decide) h (fun h => ?_) (fun h => ?_)
        · refine r_iload_n (pc := 37) (i := 3) C dX0_longest_2_37 rfl rfl ?_
          refine r_istore_n (pc := 38) (i := 1) C dX0_longest_2_38 rfl (by decide) ?_
          refine r_aload_n (pc := 39) (i := 0) C dX0_longest_2_39 rfl rfl ?_
          refine r_getP (pc := 40) C fd_X0_66 rfl dX0_longest_2_40 h (fun p6 h => ?_)
          refine r_getP (pc := 43) C fd_X0_211 rfl dX0_longest_2_43 h (fun p7 h => ?_)
          refine r_iload_n (pc := 46) (i := 3) C dX0_longest_2_46 rfl rfl ?_
          refine r_iald (pc := 47) C dX0_longest_2_47 h (fun v8 h => ?_)
          refine r_istore_n (pc := 48) (i := 2) C dX0_longest_2_48 rfl (by decide) ?_
          refine r_iinc (pc := 49) (i := 3) (v := (z3 + 1)) C dX0_longest_2_49 rfl rfl (by decide) ?_
          refine r_goto (pc := 52) (tgt := 7) C dX0_longest_2_52 (by decide) ?_
          refine r_pick (lv' := [(0, rv B a0), (1, .int z3), (2, .int v8), (3, .int (z3 + 1))]) [0, 1, 2, 3] rfl ?_
          exact ih _ _ _ _ h
        · refine r_goto (pc := 34) (tgt := 49) C dX0_longest_2_34 (by decide) ?_
          refine r_iinc (pc := 49) (i := 3) (v := (z3 + 1)) C dX0_longest_2_49 rfl rfl (by decide) ?_
          refine r_goto (pc := 52) (tgt := 7) C dX0_longest_2_52 (by decide) ?_
          refine r_pick (lv' := [(0, rv B a0), (1, .int z1), (2, .int z2), (3, .int (z3 + 1))]) [0, 1, 2, 3] rfl ?_
          exact ih _ _ _ _ h
theorem w_X0_longest_2 {B F : Nat} {d : Nat} {σ : MM} {a0 : Nat} {rf : Int32} {σf : MM} (hd : 2 ≤ d) (h : g_X0_longest_2 F σ a0 = some (rf, σf)) : xMA B yX0_longest_2 cX0_longest_2 4 (some .int) d 0 0 [rv B a0] σ (some (.int rf)) σf := by
  refine xMA.of (by decide +kernel) (Nat.le_of_ble_eq_true rfl) (cat_rv cat_nil) (fun G C E => ?_)
  unfold g_X0_longest_2 at h
  obtain ⟨-, h⟩ := r_ck h
  refine r_bipush (pc := 0) (v := (-2)) C dX0_longest_2_0 (by decide) ?_
  refine r_istore_n (pc := 2) (i := 1) C dX0_longest_2_2 rfl (by decide) ?_
  refine r_iconst (pc := 3) (v := 0) C dX0_longest_2_3 (by decide) ?_
  refine r_istore_n (pc := 4) (i := 2) C dX0_longest_2_4 rfl (by decide) ?_
  refine r_iconst (pc := 5) (v := 0) C dX0_longest_2_5 (by decide) ?_
  refine r_istore_n (pc := 6) (i := 3) C dX0_longest_2_6 rfl (by decide) ?_
  refine r_pick (lv' := [(0, rv B a0), (1, .int (-2)), (2, .int 0), (3, .int 0)]) [0, 1, 2, 3] rfl ?_
  refine wl_X0_longest_2_7 hd C E (fun r1_10 σ9 h => ?_) _ _ _ _ _ h
  refine r_iload_n (pc := 55) (i := 1) C dX0_longest_2_55 rfl rfl ?_
  exact r_iret (pc := 56) C rfl dX0_longest_2_56 h E
theorem t_X0_longest_2 {F : Nat} {σ : MM} {a0 : Nat} {r : Int32 × MM} (h : g_X0_longest_2 F σ a0 = some r) : mT σ a0 = (0, 22) := by
  unfold g_X0_longest_2 at h
  exact (r_ck h).1
theorem cs_X0_297_X3_rows : xCV RX0 297 yX3_rows cX3_rows 1 (some .int) 2 16 0 := ⟨by decide, by decide, _, rfl, yd_X3_rows, Or.inl ⟨rfl, lw_V q1212 q1021 q1022 q119 q1023⟩⟩
theorem yd_X3_chalkAt : xYd yX3_chalkAt 1 := ⟨by decide +kernel, by decide +kernel, by decide +kernel⟩
theorem cs_X0_300_X3_chalkAt : xCV RX0 300 yX3_chalkAt cX3_chalkAt 2 (some .int) 2 16 1 := ⟨by decide, by decide, _, rfl, yd_X3_chalkAt, Or.inl ⟨rfl, lw_V q1213 q1214 q1215 q119 q1216⟩⟩
def g_X0_chalk (F : Nat) (σ : MM) (a0 : Nat) (x1 : Int32) : Option (Int32 × MM) := if mT σ a0 = (0, 22) then ((gP σ a0 0 22 4).bind fun p1 => bq (g_X3_rows F σ p1) fun v3 σ2 => bq (g_X0_in F σ2 x1 v3) fun v5 σ4 => if v5 = 0 then (some ((-1), σ4)) else ((gP σ4 a0 0 22 4).bind fun p6 => bq (g_X3_chalkAt F σ4 p6 x1) fun v8 σ7 => some (v8, σ7))) else none
theorem w_X0_chalk {B F : Nat} {d : Nat} {σ : MM} {a0 : Nat} {x1 : Int32} {rf : Int32} {σf : MM} (hd : 3 ≤ d) (h : g_X0_chalk F σ a0 x1 = some (rf, σf)) : xMA B yX0_chalk cX0_chalk 2 (some .int) d 0 0 [rv B a0, .int x1] σ (some (.int rf)) σf := by
  refine xMA.of (by decide +kernel) (Nat.le_of_ble_eq_true rfl) (cat_rv (cat_int cat_nil)) (fun G C E => ?_)
  unfold g_X0_chalk at h
  obtain ⟨-, h⟩ := r_ck h
  refine r_iload_n (pc := 0) (i := 1) C dX0_chalk_0 rfl rfl ?_
  refine r_aload_n (pc := 1) (i := 0) C dX0_chalk_1 rfl rfl ?_
  refine r_getP (pc := 2) C fd_X0_66 rfl dX0_chalk_2 h (fun p1 h => ?_)
  refine r_callVI (pc := 5) (As := []) (st := [.int x1]) C cs_X0_297_X3_rows h (fun _ _ e => w_X3_rows (Nat.le_refl 1) e) (fun _ _ e => t_X3_rows e) (Nat.le_trans (Nat.le_of_ble_eq_true rfl) hd) (Nat.le_of_ble_eq_true rfl) dX0_chalk_5 (fun v3 σ2 h => ?_)
  refine r_callSI (pc := 8) (As := [.int x1, .int v3]) (st := []) C cs_X0_15_X0_in h (fun _ _ e => w_X0_in (Nat.le_refl 0) e) (Nat.le_trans (Nat.le_of_ble_eq_true rfl) hd) (Nat.le_of_ble_eq_true rfl) dX0_chalk_8 (fun v5 σ4 h => ?_)
  refine r_ifeq (pc := 11) (tgt := 25) C dX0_chalk_11 (by decide) h (fun h => ?_) (fun h => ?_)
  · refine r_iconst (pc := 25) (v := (-1)) C dX0_chalk_25 (by decide) ?_
    exact r_iret (pc := 26) C rfl dX0_chalk_26 h E
  · refine r_aload_n (pc := 14) (i := 0) C dX0_chalk_14 rfl rfl ?_
    refine r_getP (pc := 15) C fd_X0_66 rfl dX0_chalk_15 h (fun p6 h => ?_)
    refine r_iload_n (pc := 18) (i := 1) C dX0_chalk_18 rfl rfl ?_
    refine r_callVI (pc := 19) (As := [.int x1]) (st := []) C cs_X0_300_X3_chalkAt h (fun _ _ e => w_X3_chalkAt (Nat.le_refl 2) e) (fun _ _ e => t_X3_chalkAt e) (Nat.le_trans (Nat.le_of_ble_eq_true rfl) hd) (Nat.le_of_ble_eq_true rfl) dX0_chalk_19 (fun v8 σ7 h => ?_)
    refine r_goto (pc := 22) (tgt := 26) C dX0_chalk_22 (by decide) ?_
    exact r_iret (pc := 26) C rfl dX0_chalk_26 h E
theorem t_X0_chalk {F : Nat} {σ : MM} {a0 : Nat} {x1 : Int32} {r : Int32 × MM} (h : g_X0_chalk F σ a0 x1 = some r) : mT σ a0 = (0, 22) := by
  unfold g_X0_chalk at h
  exact (r_ck h).1
theorem yd_X4_clear : xYd yX4_clear 0 := ⟨by decide +kernel, by decide +kernel, by decide +kernel⟩
theorem cs_X0_303_X4_clear : xCV RX0 303 yX4_clear cX4_clear 3 (some (.object "OneCoin$Debts")) 3 1 0 := ⟨by decide, by decide, _, rfl, yd_X4_clear, Or.inl ⟨rfl, lw_V q1225 q1226 q1227 q120 q1228⟩⟩
def l_X0_hoursOf_14 (K : Int32 → MM → Option (Int32 × MM)) (F : Nat) (a0 : Nat) (x1 : Int32) (x2 : Int32) (x3 : Int32) : Nat → Int32 → Int32 → MM → Option (Int32 × MM)
  | 0, _, _, _ => none
  | f + 1, z4, z5, σ => if z5 < x2 then (bq (g_X0_has F σ x1 z5) fun v5 σ4 => if v5 = 0 then (l_X0_hoursOf_14 K F a0 x1 x2 x3 f z4 ((z5 + 1)) σ4) else ((gP σ4 a0 0 22 12).bind fun p6 => (gP σ4 p6 3 1 0).bind fun p7 => (gP σ4 a0 0 22 19).bind fun p8 => (aI σ4 p8 20 z5).bind fun v9 => (aP σ4 p7 22 v9).bind fun p10 => (gP σ4 a0 0 22 20).bind fun p11 => (aI σ4 p11 20 z5).bind fun v12 => (aI σ4 p10 20 v12).bind fun v13 => (sI σ4 p10 v12 ((v13 + 1))).bind fun σ14 => (gP σ14 a0 0 22 19).bind fun p15 => (aI σ14 p15 20 z5).bind fun v16 => (gP σ14 a0 0 22 20).bind fun p17 => (aI σ14 p17 20 z5).bind fun v18 => bq (g_X0_way F σ14 a0 v16 v18) fun v20 σ19 => l_X0_hoursOf_14 K F a0 x1 x2 x3 f ((z4 + v20)) ((z5 + 1)) σ19)) else (K z4 σ)
def g_X0_hoursOf (F : Nat) (σ : MM) (a0 : Nat) (x1 : Int32) (x2 : Int32) (x3 : Int32) : Option (Int32 × MM) := if mT σ a0 = (0, 22) then ((gP σ a0 0 22 12).bind fun p1 => bq (g_X4_clear F σ p1) fun p3 σ2 => l_X0_hoursOf_14 (fun (r4_22 : Int32) (σ21 : MM) => (gP σ21 a0 0 22 12).bind fun p23 => bq (g_X4_areOneRow F σ21 p23 x3) fun v25 σ24 => if v25 = 0 then (some (268435456, σ24)) else (some (r4_22, σ24))) F a0 x1 x2 x3 F 0 0 σ2) else none
theorem wl_X0_hoursOf_14 {B : Nat} {G : XG} {d : Nat} {rf : Int32} {σf : MM} (hd : 4 ≤ d) (C : xC B G yX0_hoursOf cX0_hoursOf 6 (some .int) d 0 0) (E : xEnd B G (some (.int rf)) σf 0 0) {K : Int32 → MM → Option (Int32 × MM)} {F : Nat} {a0 : Nat} {x1 : Int32} {x2 : Int32} {x3 : Int32} (hK : ∀ (q4 : Int32) (σ : MM), K q4 σ = some (rf, σf) → xV B G 0 0 σ 88 [(0, rv B a0), (3, .int x3), (4, .int q4)] []) : ∀ (f : Nat) (z4 : Int32) (z5 : Int32) (σ : MM), l_X0_hoursOf_14 K F a0 x1 x2 x3 f z4 z5 σ = some (rf, σf) → xV B G 0 0 σ 14 [(0, rv B a0), (1, .int x1), (2, .int x2), (3, .int x3), (4, .int z4), (5, .int z5)] [] := by
  intro f
  induction f with
  | zero =>
    intro z4 z5 σ h
    have h : none = some (rf, σf) := h
    cases h
  | succ f ih =>
    intro z4 z5 σ h
    rw [l_X0_hoursOf_14.eq_2] at h
    refine r_iload (pc := 14) (i := 5) C dX0_hoursOf_14 rfl ?_
    refine r_iload_n (pc := 16) (i := 2) C dX0_hoursOf_16 rfl rfl ?_
    refine r_icmpge (pc := 17) (tgt := 88) C dX0_hoursOf_17 (by decide) h (fun h => ?_) (fun h => ?_)
    · refine r_pick (lv' := [(0, rv B a0), (3, .int x3), (4, .int z4)]) [0, 3, 4] rfl ?_
      exact hK _ _ h
    · refine r_iload_n (pc := 20) (i := 1) C dX0_hoursOf_20 rfl rfl ?_
      refine r_iload (pc := 21) (i := 5) C dX0_hoursOf_21 rfl ?_
      refine r_callSI (pc := 23) (As := [.int x1, .int z5]) (st := []) C cs_X0_23_X0_has h (fun _ _ e => w_X0_has (Nat.le_refl 0) e) (Nat.le_trans (Nat.le_of_ble_eq_true rfl) hd) (Nat.le_of_ble_eq_true rfl) dX0_hoursOf_23 (fun v5 σ4 h => ?_)
      refine r_ifne (pc := 26) (tgt := 32) C dX0_hoursOf_26 (by decide) h (fun h => ?_) (fun h => ?_)
      · refine r_aload_n (pc := 32) (i := 0) C dX0_hoursOf_32 rfl rfl ?_
        refine r_getP (pc := 33) C fd_X0_90 rfl dX0_hoursOf_33 h (fun p6 h => ?_)
        refine r_getP (pc := 36) C fd_X0_134 rfl dX0_hoursOf_36 h (fun p7 h => ?_)
        refine r_aload_n (pc := 39) (i := 0) C dX0_hoursOf_39 rfl rfl ?_
        refine r_getP (pc := 40) C fd_X0_111 rfl dX0_hoursOf_40 h (fun p8 h => ?_)
        refine r_iload (pc := 43) (i := 5) C dX0_hoursOf_43 rfl ?_
        refine r_iald (pc := 45) C dX0_hoursOf_45 h (fun v9 h => ?_)
        refine r_aald (pc := 46) 0 (by decide) C dX0_hoursOf_46 h (fun p10 h => ?_)
        refine r_aload_n (pc := 47) (i := 0) C dX0_hoursOf_47 rfl rfl ?_
        refine r_getP (pc := 48) C fd_X0_114 rfl dX0_hoursOf_48 h (fun p11 h => ?_)
        refine r_iload (pc := 51) (i := 5) C dX0_hoursOf_51 rfl ?_
        refine r_iald (pc := 53) C dX0_hoursOf_53 h (fun v12 h => ?_)
        refine r_dup2 (pc := 54) C dX0_hoursOf_54 ?_
        refine r_iald (pc := 55) C dX0_hoursOf_55 h (fun v13 h => ?_)
        refine r_iconst (pc := 56) (v := 1) C dX0_hoursOf_56 (by decide) ?_
        refine r_iadd (pc := 57) C dX0_hoursOf_57 ?_
        refine r_iast (pc := 58) C dX0_hoursOf_58 h (fun σ14 h => ?_)
        refine r_iload (pc := 59) (i := 4) C dX0_hoursOf_59 rfl ?_
        refine r_aload_n (pc := 61) (i := 0) C dX0_hoursOf_61 rfl rfl ?_
        refine r_aload_n (pc := 62) (i := 0) C dX0_hoursOf_62 rfl rfl ?_
        refine r_getP (pc := 63) C fd_X0_111 rfl dX0_hoursOf_63 h (fun p15 h => ?_)
        refine r_iload (pc := 66) (i := 5) C dX0_hoursOf_66 rfl ?_
        refine r_iald (pc := 68) C dX0_hoursOf_68 h (fun v16 h => ?_)
        refine r_aload_n (pc := 69) (i := 0) C dX0_hoursOf_69 rfl rfl ?_
        refine r_getP (pc := 70) C fd_X0_114 rfl dX0_hoursOf_70 h (fun p17 h => ?_)
        refine r_iload (pc := 73) (i := 5) C dX0_hoursOf_73 rfl ?_
        refine r_iald (pc := 75) C dX0_hoursOf_75 h (fun v18 h => ?_)
        refine r_callVI (pc := 76) (As := [.int v16, .int v18]) (st := [.int z4]) C cs_X0_177_X0_way h (fun _ _ e => w_X0_way (Nat.le_refl 1) e) (fun _ _ e => t_X0_way e) (Nat.le_trans (Nat.le_of_ble_eq_true rfl) hd) (Nat.le_of_ble_eq_true rfl) dX0_hoursOf_76 (fun v20 σ19 h => ?_)
        refine r_iadd (pc := 79) C dX0_hoursOf_79 ?_
        refine r_istore (pc := 80) (i := 4) C dX0_hoursOf_80 (by decide) ?_
        refine r_iinc (pc := 82) (i := 5) (v := (z5 + 1)) C dX0_hoursOf_82 rfl rfl (by decide) ?_
        refine r_goto (pc := 85) (tgt := 14) C dX0_hoursOf_85 (by decide) ?_
        refine r_pick (lv' := [(0, rv B a0), (1, .int x1), (2, .int x2), (3, .int x3), (4, .int (z4 + v20)), (5, .int (z5 + 1))]) [0, 1, 2, 3, 4, 5] rfl ?_
        exact ih _ _ _ h
      · refine r_goto (pc := 29) (tgt := 82) C dX0_hoursOf_29 (by decide) ?_
        refine r_iinc (pc := 82) (i := 5) (v := (z5 + 1)) C dX0_hoursOf_82 rfl rfl (by decide) ?_
        refine r_goto (pc := 85) (tgt := 14) C dX0_hoursOf_85 (by decide) ?_
        refine r_pick (lv' := [(0, rv B a0), (1, .int x1), (2, .int x2), (3, .int x3), (4, .int z4), (5, .int (z5 + 1))]) [0, 1, 2, 3, 4, 5] rfl ?_
        exact ih _ _ _ h
theorem w_X0_hoursOf {B F : Nat} {d : Nat} {σ : MM} {a0 : Nat} {x1 : Int32} {x2 : Int32} {x3 : Int32} {rf : Int32} {σf : MM} (hd : 4 ≤ d) (h : g_X0_hoursOf F σ a0 x1 x2 x3 = some (rf, σf)) : xMA B yX0_hoursOf cX0_hoursOf 6 (some .int) d 0 0 [rv B a0, .int x1, .int x2, .int x3] σ (some (.int rf)) σf := by
  refine xMA.of (by decide +kernel) (Nat.le_of_ble_eq_true rfl) (cat_rv (cat_int (cat_int (cat_int cat_nil)))) (fun G C E => ?_)
  unfold g_X0_hoursOf at h
  obtain ⟨-, h⟩ := r_ck h
  refine r_aload_n (pc := 0) (i := 0) C dX0_hoursOf_0 rfl rfl ?_
  refine r_getP (pc := 1) C fd_X0_90 rfl dX0_hoursOf_1 h (fun p1 h => ?_)
  refine r_callVP (pc := 4) (As := []) (st := []) C cs_X0_303_X4_clear h (fun _ _ e => w_X4_clear (Nat.le_refl 0) e) (fun _ _ e => t_X4_clear e) (Nat.le_trans (Nat.le_of_ble_eq_true rfl) hd) (Nat.le_of_ble_eq_true rfl) dX0_hoursOf_4 (fun p3 σ2 h => ?_)
  refine r_pop (pc := 7) C dX0_hoursOf_7 ?_
  refine r_iconst (pc := 8) (v := 0) C dX0_hoursOf_8 (by decide) ?_
  refine r_istore (pc := 9) (i := 4) C dX0_hoursOf_9 (by decide) ?_
  refine r_iconst (pc := 11) (v := 0) C dX0_hoursOf_11 (by decide) ?_
  refine r_istore (pc := 12) (i := 5) C dX0_hoursOf_12 (by decide) ?_
  refine r_pick (lv' := [(0, rv B a0), (1, .int x1), (2, .int x2), (3, .int x3), (4, .int 0), (5, .int 0)]) [0, 1, 2, 3, 4, 5] rfl ?_
  refine wl_X0_hoursOf_14 hd C E (fun r4_22 σ21 h => ?_) _ _ _ _ h
  refine r_aload_n (pc := 88) (i := 0) C dX0_hoursOf_88 rfl rfl ?_
  refine r_getP (pc := 89) C fd_X0_90 rfl dX0_hoursOf_89 h (fun p23 h => ?_)
  refine r_iload_n (pc := 92) (i := 3) C dX0_hoursOf_92 rfl rfl ?_
  refine r_callVI (pc := 93) (As := [.int x3]) (st := []) C cs_X0_233_X4_areOneRow h (fun _ _ e => w_X4_areOneRow (Nat.le_refl 3) e) (fun _ _ e => t_X4_areOneRow e) (Nat.le_trans (Nat.le_of_ble_eq_true rfl) hd) (Nat.le_of_ble_eq_true rfl) dX0_hoursOf_93 (fun v25 σ24 h => ?_)
  refine r_ifeq (pc := 96) (tgt := 104) C dX0_hoursOf_96 (by decide) h (fun h => ?_) (fun h => ?_)
  · refine r_ldc (pc := 104) C q1125 dX0_hoursOf_104 ?_
    exact r_iret (pc := 106) C rfl dX0_hoursOf_106 h E
  · refine r_iload (pc := 99) (i := 4) C dX0_hoursOf_99 rfl ?_
    refine r_goto (pc := 101) (tgt := 106) C dX0_hoursOf_101 (by decide) ?_
    exact r_iret (pc := 106) C rfl dX0_hoursOf_106 h E
theorem t_X0_hoursOf {F : Nat} {σ : MM} {a0 : Nat} {x1 : Int32} {x2 : Int32} {x3 : Int32} {r : Int32 × MM} (h : g_X0_hoursOf F σ a0 x1 x2 x3 = some r) : mT σ a0 = (0, 22) := by
  unfold g_X0_hoursOf at h
  exact (r_ck h).1
theorem yd_X0_hoursOf : xYd yX0_hoursOf 3 := ⟨by decide +kernel, by decide +kernel, by decide +kernel⟩
theorem cs_X0_307_X0_hoursOf : xCV RX0 307 yX0_hoursOf cX0_hoursOf 6 (some .int) 0 22 3 := ⟨by decide, by decide, _, rfl, yd_X0_hoursOf, Or.inl ⟨rfl, lw_V q1221 q1223 qs44 q116 q1224⟩⟩
def l_X0_two_60 (K : Int32 → MM → Option (Int32 × MM)) (F : Nat) (a0 : Nat) (x1 : Int32) (x2 : Int32) (x3 : Int32) : Nat → Int32 → Int32 → MM → Option (Int32 × MM)
  | 0, _, _, _ => none
  | f + 1, z4, z5, σ => if x3 < z5 then (K z4 σ) else ((gP σ a0 0 22 4).bind fun p11 => (gI σ p11 2 16 3).bind fun v12 => bq (g_X0_hoursOf F σ a0 z5 x2 v12) fun v14 σ13 => bq (g_X0_hoursOf F σ13 a0 ((x3 &&& (z5 ^^^ (-1)))) x2 x1) fun v16 σ15 => l_X0_two_60 K F a0 x1 x2 x3 f ((jmin z4 ((jmax v14 v16)))) ((z5 + 1)) σ15)
def g_X0_two (F : Nat) (σ : MM) (a0 : Nat) (x1 : Int32) : Option (Int32 × MM) := if mT σ a0 = (0, 22) then (bq (g_X0_isTold F σ a0 x1) fun v2 σ1 => if v2 = 0 then (some ((-1), σ1)) else ((gP σ1 a0 0 22 4).bind fun p3 => (gI σ1 p3 2 16 3).bind fun v4 => if v4 = (-1) then (some ((-2), σ1)) else ((gP σ1 a0 0 22 4).bind fun p5 => (gP σ1 p5 2 16 0).bind fun p6 => bq (g_X4_all F σ1 p6) fun v8 σ7 => if 8 < v8 then (some ((-3), σ7)) else (bq (g_X0_takesDebts F σ7 a0) fun v10 σ9 => l_X0_two_60 (fun (r4_22 : Int32) (σ21 : MM) => if r4_22 = 268435456 then (some ((-4), σ21)) else (some (r4_22, σ21))) F a0 x1 v10 ((((1 : Int32) <<< (v10 &&& 31)) - 1)) F 268435456 0 σ9)))) else none
theorem wl_X0_two_60 {B : Nat} {G : XG} {d : Nat} {rf : Int32} {σf : MM} (hd : 5 ≤ d) (C : xC B G yX0_two cX0_two 6 (some .int) d 0 0) (E : xEnd B G (some (.int rf)) σf 0 0) {K : Int32 → MM → Option (Int32 × MM)} {F : Nat} {a0 : Nat} {x1 : Int32} {x2 : Int32} {x3 : Int32} (hK : ∀ (q4 : Int32) (σ : MM), K q4 σ = some (rf, σf) → xV B G 0 0 σ 108 [(4, .int q4)] []) : ∀ (f : Nat) (z4 : Int32) (z5 : Int32) (σ : MM), l_X0_two_60 K F a0 x1 x2 x3 f z4 z5 σ = some (rf, σf) → xV B G 0 0 σ 60 [(0, rv B a0), (1, .int x1), (2, .int x2), (3, .int x3), (4, .int z4), (5, .int z5)] [] := by
  intro f
  induction f with
  | zero =>
    intro z4 z5 σ h
    have h : none = some (rf, σf) := h
    cases h
  | succ f ih =>
    intro z4 z5 σ h
    rw [l_X0_two_60.eq_2] at h
    refine r_iload (pc := 60) (i := 5) C dX0_two_60 rfl ?_
    refine r_iload_n (pc := 62) (i := 3) C dX0_two_62 rfl rfl ?_
    refine r_icmpgt (pc := 63) (tgt := 108) C dX0_two_63 (by decide) h (fun h => ?_) (fun h => ?_)
    · refine r_pick (lv' := [(4, .int z4)]) [4] rfl ?_
      exact hK _ _ h
    · refine r_iload (pc := 66) (i := 4) C dX0_two_66 rfl ?_
      refine r_aload_n (pc := 68) (i := 0) C dX0_two_68 rfl rfl ?_
      refine r_iload (pc := 69) (i := 5) C dX0_two_69 rfl ?_
      refine r_iload_n (pc := 71) (i := 2) C dX0_two_71 rfl rfl ?_
      refine r_aload_n (pc := 72) (i := 0) C dX0_two_72 rfl rfl ?_
      refine r_getP (pc := 73) C fd_X0_66 rfl dX0_two_73 h (fun p11 h => ?_)
      refine r_getI (pc := 76) C fd_X0_137 rfl dX0_two_76 h (fun v12 h => ?_)
      refine r_callVI (pc := 79) (As := [.int z5, .int x2, .int v12]) (st := [.int z4]) C cs_X0_307_X0_hoursOf h (fun _ _ e => w_X0_hoursOf (Nat.le_refl 4) e) (fun _ _ e => t_X0_hoursOf e) (Nat.le_trans (Nat.le_of_ble_eq_true rfl) hd) (Nat.le_of_ble_eq_true rfl) dX0_two_79 (fun v14 σ13 h => ?_)
      refine r_aload_n (pc := 82) (i := 0) C dX0_two_82 rfl rfl ?_
      refine r_iload_n (pc := 83) (i := 3) C dX0_two_83 rfl rfl ?_
      refine r_iload (pc := 84) (i := 5) C dX0_two_84 rfl ?_
      refine r_iconst (pc := 86) (v := (-1)) C dX0_two_86 (by decide) ?_
      refine r_ixor (pc := 87) C dX0_two_87 ?_
      refine r_iand (pc := 88) C dX0_two_88 ?_
      refine r_iload_n (pc := 89) (i := 2) C dX0_two_89 rfl rfl ?_
      refine r_iload_n (pc := 90) (i := 1) C dX0_two_90 rfl rfl ?_
      refine r_callVI (pc := 91) (As := [.int (x3 &&& (z5 ^^^ (-1))), .int x2, .int x1]) (st := [.int v14, .int z4]) C cs_X0_307_X0_hoursOf h (fun _ _ e => w_X0_hoursOf (Nat.le_refl 4) e) (fun _ _ e => t_X0_hoursOf e) (Nat.le_trans (Nat.le_of_ble_eq_true rfl) hd) (Nat.le_of_ble_eq_true rfl) dX0_two_91 (fun v16 σ15 h => ?_)
      refine r_mmax (pc := 94) C q915 q496 q126 q497 (Nat.le_trans (Nat.le_of_ble_eq_true rfl) hd) (Nat.le_of_ble_eq_true rfl) (Nat.le_of_ble_eq_true rfl) (Nat.le_of_ble_eq_true rfl) dX0_two_94 ?_
      refine r_mmin (pc := 97) C q1008 q499 q126 q500 (Nat.le_trans (Nat.le_of_ble_eq_true rfl) hd) (Nat.le_of_ble_eq_true rfl) (Nat.le_of_ble_eq_true rfl) (Nat.le_of_ble_eq_true rfl) dX0_two_97 ?_
      refine r_istore (pc := 100) (i := 4) C dX0_two_100 (by decide) ?_
      refine r_iinc (pc := 102) (i := 5) (v := (z5 + 1)) C dX0_two_102 rfl rfl (by decide) ?_
      refine r_goto (pc := 105) (tgt := 60) C dX0_two_105 (by decide) ?_
      refine r_pick (lv' := [(0, rv B a0), (1, .int x1), (2, .int x2), (3, .int x3), (4, .int (jmin z4 ((jmax v14 v16)))), (5, .int (z5 + 1))]) [0, 1, 2, 3, 4, 5] rfl ?_
      exact ih _ _ _ h
theorem w_X0_two {B F : Nat} {d : Nat} {σ : MM} {a0 : Nat} {x1 : Int32} {rf : Int32} {σf : MM} (hd : 5 ≤ d) (h : g_X0_two F σ a0 x1 = some (rf, σf)) : xMA B yX0_two cX0_two 6 (some .int) d 0 0 [rv B a0, .int x1] σ (some (.int rf)) σf := by
  refine xMA.of (by decide +kernel) (Nat.le_of_ble_eq_true rfl) (cat_rv (cat_int cat_nil)) (fun G C E => ?_)
  unfold g_X0_two at h
  obtain ⟨-, h⟩ := r_ck h
  refine r_aload_n (pc := 0) (i := 0) C dX0_two_0 rfl rfl ?_
  refine r_iload_n (pc := 1) (i := 1) C dX0_two_1 rfl rfl ?_
  refine r_callVI (pc := 2) (As := [.int x1]) (st := []) C cs_X0_123_X0_isTold h (fun _ _ e => w_X0_isTold (Nat.le_refl 1) e) (fun _ _ e => t_X0_isTold e) (Nat.le_trans (Nat.le_of_ble_eq_true rfl) hd) (Nat.le_of_ble_eq_true rfl) dX0_two_2 (fun v2 σ1 h => ?_)
  refine r_ifne (pc := 5) (tgt := 10) C dX0_two_5 (by decide) h (fun h => ?_) (fun h => ?_)
  · refine r_aload_n (pc := 10) (i := 0) C dX0_two_10 rfl rfl ?_
    refine r_getP (pc := 11) C fd_X0_66 rfl dX0_two_11 h (fun p3 h => ?_)
    refine r_getI (pc := 14) C fd_X0_137 rfl dX0_two_14 h (fun v4 h => ?_)
    refine r_iconst (pc := 17) (v := (-1)) C dX0_two_17 (by decide) ?_
    refine r_icmpne (pc := 18) (tgt := 24) C dX0_two_18 (by decide) h (fun h => ?_) (fun h => ?_)
    · refine r_aload_n (pc := 24) (i := 0) C dX0_two_24 rfl rfl ?_
      refine r_getP (pc := 25) C fd_X0_66 rfl dX0_two_25 h (fun p5 h => ?_)
      refine r_getP (pc := 28) C fd_X0_131 rfl dX0_two_28 h (fun p6 h => ?_)
      refine r_callVI (pc := 31) (As := []) (st := []) C cs_X0_199_X4_all h (fun _ _ e => w_X4_all (Nat.le_refl 1) e) (fun _ _ e => t_X4_all e) (Nat.le_trans (Nat.le_of_ble_eq_true rfl) hd) (Nat.le_of_ble_eq_true rfl) dX0_two_31 (fun v8 σ7 h => ?_)
      refine r_bipush (pc := 34) (v := 8) C dX0_two_34 (by decide) ?_
      refine r_icmple (pc := 36) (tgt := 42) C dX0_two_36 (by decide) h (fun h => ?_) (fun h => ?_)
      · refine r_aload_n (pc := 42) (i := 0) C dX0_two_42 rfl rfl ?_
        refine r_callVI (pc := 43) (As := []) (st := []) C cs_X0_264_X0_takesDebts h (fun _ _ e => w_X0_takesDebts (Nat.le_refl 0) e) (fun _ _ e => t_X0_takesDebts e) (Nat.le_trans (Nat.le_of_ble_eq_true rfl) hd) (Nat.le_of_ble_eq_true rfl) dX0_two_43 (fun v10 σ9 h => ?_)
        refine r_istore_n (pc := 46) (i := 2) C dX0_two_46 rfl (by decide) ?_
        refine r_iconst (pc := 47) (v := 1) C dX0_two_47 (by decide) ?_
        refine r_iload_n (pc := 48) (i := 2) C dX0_two_48 rfl rfl ?_
        refine r_ishl (pc := 49) C dX0_two_49 ?_
        refine r_iconst (pc := 50) (v := 1) C dX0_two_50 (by decide) ?_
        refine r_isub (pc := 51) C dX0_two_51 ?_
        refine r_istore_n (pc := 52) (i := 3) C dX0_two_52 rfl (by decide) ?_
        refine r_ldc (pc := 53) C q1125 dX0_two_53 ?_
        refine r_istore (pc := 55) (i := 4) C dX0_two_55 (by decide) ?_
        refine r_iconst (pc := 57) (v := 0) C dX0_two_57 (by decide) ?_
        refine r_istore (pc := 58) (i := 5) C dX0_two_58 (by decide) ?_
        refine r_pick (lv' := [(0, rv B a0), (1, .int x1), (2, .int v10), (3, .int (((1 : Int32) <<< (v10 &&& 31)) - 1)), (4, .int 268435456), (5, .int 0)]) [0, 1, 2, 3, 4, 5] rfl ?_
        refine wl_X0_two_60 hd C E (fun r4_22 σ21 h => ?_) _ _ _ _ h
        refine r_iload (pc := 108) (i := 4) C dX0_two_108 rfl ?_
        refine r_ldc (pc := 110) C q1125 dX0_two_110 ?_
        refine r_icmpne (pc := 112) (tgt := 120) C dX0_two_112 (by decide) h (fun h => ?_) (fun h => ?_)
        · refine r_iload (pc := 120) (i := 4) C dX0_two_120 rfl ?_
          exact r_iret (pc := 122) C rfl dX0_two_122 h E
        · refine r_bipush (pc := 115) (v := (-4)) C dX0_two_115 (by decide) ?_
          refine r_goto (pc := 117) (tgt := 122) C dX0_two_117 (by decide) ?_
          exact r_iret (pc := 122) C rfl dX0_two_122 h E
      · refine r_bipush (pc := 39) (v := (-3)) C dX0_two_39 (by decide) ?_
        exact r_iret (pc := 41) C rfl dX0_two_41 h E
    · refine r_bipush (pc := 21) (v := (-2)) C dX0_two_21 (by decide) ?_
      exact r_iret (pc := 23) C rfl dX0_two_23 h E
  · refine r_iconst (pc := 8) (v := (-1)) C dX0_two_8 (by decide) ?_
    exact r_iret (pc := 9) C rfl dX0_two_9 h E
theorem t_X0_two {F : Nat} {σ : MM} {a0 : Nat} {x1 : Int32} {r : Int32 × MM} (h : g_X0_two F σ a0 x1 = some r) : mT σ a0 = (0, 22) := by
  unfold g_X0_two at h
  exact (r_ck h).1
theorem yd_X0_divisor : xYd yX0_divisor 2 := ⟨by decide +kernel, by decide +kernel, by decide +kernel⟩
theorem cs_X0_10_X0_divisor : xCS RX0 10 yX0_divisor cX0_divisor 2 (some .int) 2 := ⟨by decide, yd_X0_divisor, Or.inl (lw_S q1234 q1235 q116 q1236)⟩
def s_X0_divisor (F : Nat) (rec : MM → Int32 → Int32 → Option (Int32 × MM)) (σ : MM) (x0 : Int32) (x1 : Int32) : Option (Int32 × MM) := if x1 = 0 then (some (x0, σ)) else ((rm_ x0 x1).bind fun v1 => bq (rec σ x1 v1) fun v3 σ2 => some (v3, σ2))
theorem ws_X0_divisor {B F : Nat} {d : Nat} {σ : MM} {x0 : Int32} {x1 : Int32} {rf : Int32} {σf : MM} {rec : MM → Int32 → Int32 → Option (Int32 × MM)} {dr : Nat} (hrec : ∀ (σ : MM) (c1 : Int32) (c2 : Int32) (v : Int32) (σ' : MM), rec σ c1 c2 = some (v, σ') → xMA B yX0_divisor cX0_divisor 2 (some .int) dr 0 0 [.int c1, .int c2] σ (some (.int v)) σ') (hd : dr + 1 ≤ d) (hd2 : 0 ≤ d) (h : s_X0_divisor F rec σ x0 x1 = some (rf, σf)) : xMA B yX0_divisor cX0_divisor 2 (some .int) d 0 0 [.int x0, .int x1] σ (some (.int rf)) σf := by
  refine xMA.of (by decide +kernel) (Nat.le_of_ble_eq_true rfl) (cat_int (cat_int cat_nil)) (fun G C E => ?_)
  unfold s_X0_divisor at h
  refine r_iload_n (pc := 0) (i := 1) C dX0_divisor_0 rfl rfl ?_
  refine r_ifne (pc := 1) (tgt := 8) C dX0_divisor_1 (by decide) h (fun h => ?_) (fun h => ?_)
  · refine r_iload_n (pc := 8) (i := 1) C dX0_divisor_8 rfl rfl ?_
    refine r_iload_n (pc := 9) (i := 0) C dX0_divisor_9 rfl rfl ?_
    refine r_iload_n (pc := 10) (i := 1) C dX0_divisor_10 rfl rfl ?_
    refine r_irem (pc := 11) C dX0_divisor_11 h (fun v1 h => ?_)
    refine r_callSI (pc := 12) (As := [.int x1, .int v1]) (st := []) C cs_X0_10_X0_divisor h (fun _ _ e => (hrec _ _ _ _ _ e)) (by omega) (Nat.le_of_ble_eq_true rfl) dX0_divisor_12 (fun v3 σ2 h => ?_)
    exact r_iret (pc := 15) C rfl dX0_divisor_15 h E
  · refine r_iload_n (pc := 4) (i := 0) C dX0_divisor_4 rfl rfl ?_
    refine r_goto (pc := 5) (tgt := 15) C dX0_divisor_5 (by decide) ?_
    exact r_iret (pc := 15) C rfl dX0_divisor_15 h E
def r_X0_divisor (F : Nat) : Nat → MM → Int32 → Int32 → Option (Int32 × MM)
  | 0 => fun _ _ _ => none
  | f + 1 => s_X0_divisor F (r_X0_divisor F f)
theorem wr_X0_divisor {B F : Nat} : ∀ (f d : Nat), 1 * f + 0 ≤ d → ∀ (σ : MM) (x0 : Int32) (x1 : Int32) (v : Int32) (σ' : MM), r_X0_divisor F f σ x0 x1 = some (v, σ') → xMA B yX0_divisor cX0_divisor 2 (some .int) d 0 0 [.int x0, .int x1] σ (some (.int v)) σ' := by
  intro f
  induction f with
  | zero =>
    intro d hd σ x0 x1 v σ' h
    have h : none = some (v, σ') := h
    cases h
  | succ f ih =>
    intro d hd σ x0 x1 v σ' h
    have h : s_X0_divisor F (r_X0_divisor F f) σ x0 x1 = some (v, σ') := h
    exact ws_X0_divisor (dr := 1 * f + 0) (ih _ (Nat.le_refl _)) (by omega) (by omega) h
def g_X0_divisor (F : Nat) (σ : MM) (x0 : Int32) (x1 : Int32) : Option (Int32 × MM) := r_X0_divisor F 64 σ x0 x1
theorem w_X0_divisor {B F d : Nat} {σ : MM} {x0 : Int32} {x1 : Int32} {rf : Int32} {σf : MM} (hd : 64 ≤ d) (h : g_X0_divisor F σ x0 x1 = some (rf, σf)) : xMA B yX0_divisor cX0_divisor 2 (some .int) d 0 0 [.int x0, .int x1] σ (some (.int rf)) σf := (wr_X0_divisor 64 d hd _ _ _ _ _ h)
theorem cs_X0_311_X2_at : xCV RX0 311 yX2_at cX2_at 3 (some (.object "OneCoin$Moment")) 1 10 2 := ⟨by decide, by decide, _, rfl, yd_X2_at, Or.inl ⟨rfl, lw_V q1233 q950 q951 q118 q952⟩⟩
def l_X0_dry_55 (K : Int32 → Int32 → MM → Option (Int32 × MM)) (F : Nat) (x1 : Int32) (x2 : Int32) (x3 : Int32) : Nat → Int32 → Int32 → Int32 → MM → Option (Int32 × MM)
  | 0, _, _, _, _ => none
  | f + 1, z4, z5, z6, σ => if z6 < x1 then (l_X0_dry_55 K F x1 x2 x3 f ((z4 * x3)) ((z5 * 10)) ((z6 + 1)) σ) else (K z4 z5 σ)
def g_X0_dry (F : Nat) (σ : MM) (a0 : Nat) (x1 : Int32) (x2 : Int32) : Option (Int32 × MM) := if mT σ a0 = (0, 22) then (bq (g_X0_within F σ x1 1 9) fun v2 σ1 => if v2 = 0 then (some ((-1), σ1)) else (bq (g_X0_in F σ1 x2 2) fun v4 σ3 => if v4 = 0 then (some ((-1), σ3)) else ((gP σ3 a0 0 22 3).bind fun p5 => (gP σ3 a0 0 22 4).bind fun p6 => (gI σ3 p6 2 16 8).bind fun v7 => bq (g_X2_at F σ3 p5 0 v7) fun p9 σ8 => bq (g_X2_tells F σ8 p9 114 10) fun v11 σ10 => l_X0_dry_55 (fun (r4_13 : Int32) (r5_14 : Int32) (σ12 : MM) => bq (g_X0_divisor F σ12 r4_13 r5_14) fun v16 σ15 => if x2 = 0 then ((dv r4_13 v16).bind fun v18 => some (v18, σ15)) else ((dv r5_14 v16).bind fun v17 => some (v17, σ15))) F x1 x2 ((10 - v11)) F 1 1 0 σ10))) else none
theorem wl_X0_dry_55 {B : Nat} {G : XG} {d : Nat} {rf : Int32} {σf : MM} (hd : 133 ≤ d) (C : xC B G yX0_dry cX0_dry 7 (some .int) d 0 0) (E : xEnd B G (some (.int rf)) σf 0 0) {K : Int32 → Int32 → MM → Option (Int32 × MM)} {F : Nat} {x1 : Int32} {x2 : Int32} {x3 : Int32} (hK : ∀ (q4 : Int32) (q5 : Int32) (σ : MM), K q4 q5 σ = some (rf, σf) → xV B G 0 0 σ 80 [(2, .int x2), (4, .int q4), (5, .int q5)] []) : ∀ (f : Nat) (z4 : Int32) (z5 : Int32) (z6 : Int32) (σ : MM), l_X0_dry_55 K F x1 x2 x3 f z4 z5 z6 σ = some (rf, σf) → xV B G 0 0 σ 55 [(1, .int x1), (2, .int x2), (3, .int x3), (4, .int z4), (5, .int z5), (6, .int z6)] [] := by
  intro f
  induction f with
  | zero =>
    intro z4 z5 z6 σ h
    have h : none = some (rf, σf) := h
    cases h
  | succ f ih =>
    intro z4 z5 z6 σ h
    rw [l_X0_dry_55.eq_2] at h
    refine r_iload (pc := 55) (i := 6) C dX0_dry_55 rfl ?_
    refine r_iload_n (pc := 57) (i := 1) C dX0_dry_57 rfl rfl ?_
    refine r_icmpge (pc := 58) (tgt := 80) C dX0_dry_58 (by decide) h (fun h => ?_) (fun h => ?_)
    · refine r_pick (lv' := [(2, .int x2), (4, .int z4), (5, .int z5)]) [2, 4, 5] rfl ?_
      exact hK _ _ _ h
    · refine r_iload (pc := 61) (i := 4) C dX0_dry_61 rfl ?_
      refine r_iload_n (pc := 63) (i := 3) C dX0_dry_63 rfl rfl ?_
      refine r_imul (pc := 64) C dX0_dry_64 ?_
      refine r_istore (pc := 65) (i := 4) C dX0_dry_65 (by decide) ?_
      refine r_iload (pc := 67) (i := 5) C dX0_dry_67 rfl ?_
      refine r_bipush (pc := 69) (v := 10) C dX0_dry_69 (by decide) ?_
      refine r_imul (pc := 71) C dX0_dry_71 ?_
      refine r_istore (pc := 72) (i := 5) C dX0_dry_72 (by decide) ?_
      refine r_iinc (pc := 74) (i := 6) (v := (z6 + 1)) C dX0_dry_74 rfl rfl (by decide) ?_
      refine r_goto (pc := 77) (tgt := 55) C dX0_dry_77 (by decide) ?_
      refine r_pick (lv' := [(1, .int x1), (2, .int x2), (3, .int x3), (4, .int (z4 * x3)), (5, .int (z5 * 10)), (6, .int (z6 + 1))]) [1, 2, 3, 4, 5, 6] rfl ?_
      exact ih _ _ _ _ h
theorem w_X0_dry {B F : Nat} {d : Nat} {σ : MM} {a0 : Nat} {x1 : Int32} {x2 : Int32} {rf : Int32} {σf : MM} (hd : 133 ≤ d) (h : g_X0_dry F σ a0 x1 x2 = some (rf, σf)) : xMA B yX0_dry cX0_dry 7 (some .int) d 0 0 [rv B a0, .int x1, .int x2] σ (some (.int rf)) σf := by
  refine xMA.of (by decide +kernel) (Nat.le_of_ble_eq_true rfl) (cat_rv (cat_int (cat_int cat_nil))) (fun G C E => ?_)
  unfold g_X0_dry at h
  obtain ⟨-, h⟩ := r_ck h
  refine r_iload_n (pc := 0) (i := 1) C dX0_dry_0 rfl rfl ?_
  refine r_iconst (pc := 1) (v := 1) C dX0_dry_1 (by decide) ?_
  refine r_bipush (pc := 2) (v := 9) C dX0_dry_2 (by decide) ?_
  refine r_callSI (pc := 4) (As := [.int x1, .int 1, .int 9]) (st := []) C cs_X0_127_X0_within h (fun _ _ e => w_X0_within (Nat.le_refl 0) e) (Nat.le_trans (Nat.le_of_ble_eq_true rfl) hd) (Nat.le_of_ble_eq_true rfl) dX0_dry_4 (fun v2 σ1 h => ?_)
  refine r_ifeq (pc := 7) (tgt := 18) C dX0_dry_7 (by decide) h (fun h => ?_) (fun h => ?_)
  · refine r_iconst (pc := 18) (v := (-1)) C dX0_dry_18 (by decide) ?_
    exact r_iret (pc := 19) C rfl dX0_dry_19 h E
  · refine r_iload_n (pc := 10) (i := 2) C dX0_dry_10 rfl rfl ?_
    refine r_iconst (pc := 11) (v := 2) C dX0_dry_11 (by decide) ?_
    refine r_callSI (pc := 12) (As := [.int x2, .int 2]) (st := []) C cs_X0_15_X0_in h (fun _ _ e => w_X0_in (Nat.le_refl 0) e) (Nat.le_trans (Nat.le_of_ble_eq_true rfl) hd) (Nat.le_of_ble_eq_true rfl) dX0_dry_12 (fun v4 σ3 h => ?_)
    refine r_ifne (pc := 15) (tgt := 20) C dX0_dry_15 (by decide) h (fun h => ?_) (fun h => ?_)
    · refine r_bipush (pc := 20) (v := 10) C dX0_dry_20 (by decide) ?_
      refine r_aload_n (pc := 22) (i := 0) C dX0_dry_22 rfl rfl ?_
      refine r_getP (pc := 23) C fd_X0_37 rfl dX0_dry_23 h (fun p5 h => ?_)
      refine r_iconst (pc := 26) (v := 0) C dX0_dry_26 (by decide) ?_
      refine r_aload_n (pc := 27) (i := 0) C dX0_dry_27 rfl rfl ?_
      refine r_getP (pc := 28) C fd_X0_66 rfl dX0_dry_28 h (fun p6 h => ?_)
      refine r_getI (pc := 31) C fd_X0_294 rfl dX0_dry_31 h (fun v7 h => ?_)
      refine r_callVP (pc := 34) (As := [.int 0, .int v7]) (st := [.int 10]) C cs_X0_311_X2_at h (fun _ _ e => w_X2_at (Nat.le_refl 0) e) (fun _ _ e => t_X2_at e) (Nat.le_trans (Nat.le_of_ble_eq_true rfl) hd) (Nat.le_of_ble_eq_true rfl) dX0_dry_34 (fun p9 σ8 h => ?_)
      refine r_bipush (pc := 37) (v := 114) C dX0_dry_37 (by decide) ?_
      refine r_bipush (pc := 39) (v := 10) C dX0_dry_39 (by decide) ?_
      refine r_callVI (pc := 41) (As := [.int 114, .int 10]) (st := [.int 10]) C cs_X0_51_X2_tells h (fun _ _ e => w_X2_tells (Nat.le_refl 132) e) (fun _ _ e => t_X2_tells e) (Nat.le_trans (Nat.le_of_ble_eq_true rfl) hd) (Nat.le_of_ble_eq_true rfl) dX0_dry_41 (fun v11 σ10 h => ?_)
      refine r_isub (pc := 44) C dX0_dry_44 ?_
      refine r_istore_n (pc := 45) (i := 3) C dX0_dry_45 rfl (by decide) ?_
      refine r_iconst (pc := 46) (v := 1) C dX0_dry_46 (by decide) ?_
      refine r_istore (pc := 47) (i := 4) C dX0_dry_47 (by decide) ?_
      refine r_iconst (pc := 49) (v := 1) C dX0_dry_49 (by decide) ?_
      refine r_istore (pc := 50) (i := 5) C dX0_dry_50 (by decide) ?_
      refine r_iconst (pc := 52) (v := 0) C dX0_dry_52 (by decide) ?_
      refine r_istore (pc := 53) (i := 6) C dX0_dry_53 (by decide) ?_
      refine r_pick (lv' := [(1, .int x1), (2, .int x2), (3, .int (10 - v11)), (4, .int 1), (5, .int 1), (6, .int 0)]) [1, 2, 3, 4, 5, 6] rfl ?_
      refine wl_X0_dry_55 hd C E (fun r4_13 r5_14 σ12 h => ?_) _ _ _ _ _ h
      refine r_iload (pc := 80) (i := 4) C dX0_dry_80 rfl ?_
      refine r_iload (pc := 82) (i := 5) C dX0_dry_82 rfl ?_
      refine r_callSI (pc := 84) (As := [.int r4_13, .int r5_14]) (st := []) C cs_X0_10_X0_divisor h (fun _ _ e => w_X0_divisor (Nat.le_refl 64) e) (Nat.le_trans (Nat.le_of_ble_eq_true rfl) hd) (Nat.le_of_ble_eq_true rfl) dX0_dry_84 (fun v16 σ15 h => ?_)
      refine r_istore (pc := 87) (i := 6) C dX0_dry_87 (by decide) ?_
      refine r_iload_n (pc := 89) (i := 2) C dX0_dry_89 rfl rfl ?_
      refine r_ifne (pc := 90) (tgt := 101) C dX0_dry_90 (by decide) h (fun h => ?_) (fun h => ?_)
      · refine r_iload (pc := 101) (i := 5) C dX0_dry_101 rfl ?_
        refine r_iload (pc := 103) (i := 6) C dX0_dry_103 rfl ?_
        refine r_idiv (pc := 105) C dX0_dry_105 h (fun v17 h => ?_)
        exact r_iret (pc := 106) C rfl dX0_dry_106 h E
      · refine r_iload (pc := 93) (i := 4) C dX0_dry_93 rfl ?_
        refine r_iload (pc := 95) (i := 6) C dX0_dry_95 rfl ?_
        refine r_idiv (pc := 97) C dX0_dry_97 h (fun v18 h => ?_)
        refine r_goto (pc := 98) (tgt := 106) C dX0_dry_98 (by decide) ?_
        exact r_iret (pc := 106) C rfl dX0_dry_106 h E
    · refine r_iconst (pc := 18) (v := (-1)) C dX0_dry_18 (by decide) ?_
      exact r_iret (pc := 19) C rfl dX0_dry_19 h E
theorem t_X0_dry {F : Nat} {σ : MM} {a0 : Nat} {x1 : Int32} {x2 : Int32} {r : Int32 × MM} (h : g_X0_dry F σ a0 x1 x2 = some r) : mT σ a0 = (0, 22) := by
  unfold g_X0_dry at h
  exact (r_ck h).1
theorem fd_X0_120 : xFg RX0 120 2 16 9 := ⟨_, rfl, rfl, by decide, by decide, in_X3, Or.inr ⟨_, in_nest q235 rfl⟩⟩
def g_X0_seed (F : Nat) (σ : MM) (a0 : Nat) (x1 : Int32) : Option (Int32 × MM) := if mT σ a0 = (0, 22) then (bq (g_X0_in F σ x1 65536) fun v2 σ1 => if v2 = 0 then (some (0, σ1)) else ((gP σ1 a0 0 22 4).bind fun p3 => (pI σ1 p3 2 16 9 x1).bind fun σ4 => some (1, σ4))) else none
theorem w_X0_seed {B F : Nat} {d : Nat} {σ : MM} {a0 : Nat} {x1 : Int32} {rf : Int32} {σf : MM} (hd : 1 ≤ d) (h : g_X0_seed F σ a0 x1 = some (rf, σf)) : xMA B yX0_seed cX0_seed 2 (some .boolean) d 0 0 [rv B a0, .int x1] σ (some (.int rf)) σf := by
  refine xMA.of (by decide +kernel) (Nat.le_of_ble_eq_true rfl) (cat_rv (cat_int cat_nil)) (fun G C E => ?_)
  unfold g_X0_seed at h
  obtain ⟨-, h⟩ := r_ck h
  refine r_iload_n (pc := 0) (i := 1) C dX0_seed_0 rfl rfl ?_
  refine r_ldc_w (pc := 1) C q1241 dX0_seed_1 ?_
  refine r_callSI (pc := 4) (As := [.int x1, .int 65536]) (st := []) C cs_X0_15_X0_in h (fun _ _ e => w_X0_in (Nat.le_refl 0) e) (Nat.le_trans (Nat.le_of_ble_eq_true rfl) hd) (Nat.le_of_ble_eq_true rfl) dX0_seed_4 (fun v2 σ1 h => ?_)
  refine r_ifne (pc := 7) (tgt := 12) C dX0_seed_7 (by decide) h (fun h => ?_) (fun h => ?_)
  · refine r_aload_n (pc := 12) (i := 0) C dX0_seed_12 rfl rfl ?_
    refine r_getP (pc := 13) C fd_X0_66 rfl dX0_seed_13 h (fun p3 h => ?_)
    refine r_iload_n (pc := 16) (i := 1) C dX0_seed_16 rfl rfl ?_
    refine r_putI (pc := 17) C fd_X0_120 ft_X3_9 dX0_seed_17 h (fun σ4 h => ?_)
    refine r_iconst (pc := 20) (v := 1) C dX0_seed_20 (by decide) ?_
    exact r_zretL (pc := 21) C rfl dX0_seed_21 (Or.inr rfl) h E
  · refine r_iconst (pc := 10) (v := 0) C dX0_seed_10 (by decide) ?_
    exact r_zretL (pc := 11) C rfl dX0_seed_11 (Or.inl rfl) h E
theorem t_X0_seed {F : Nat} {σ : MM} {a0 : Nat} {x1 : Int32} {r : Int32 × MM} (h : g_X0_seed F σ a0 x1 = some r) : mT σ a0 = (0, 22) := by
  unfold g_X0_seed at h
  exact (r_ck h).1
theorem fd_X0_316 : xFg RX0 316 0 22 10 := ⟨_, rfl, rfl, by decide, by decide, in_X0, Or.inl q325⟩
theorem ft_X0_10 : xFt 0 10 .boolean false := ⟨_, rfl, by decide +kernel, rfl, rfl⟩
theorem fd_X0_73 : xFg RX0 73 0 22 6 := ⟨_, rfl, rfl, by decide, by decide, in_X0, Or.inl q318⟩
theorem ft_X0_6 : xFt 0 6 (.object "OneCoin$Duchy") true := ⟨_, rfl, by decide +kernel, rfl, rfl⟩
def g_X0_keep (F : Nat) (σ : MM) (a0 : Nat) : Option (Int32 × MM) := if mT σ a0 = (0, 22) then ((pZ σ a0 0 22 10 1).bind fun σ1 => (gP σ1 a0 0 22 6).bind fun p2 => (gP σ1 a0 0 22 4).bind fun p3 => bq (g_X3_takes F σ1 p2 p3) fun p5 σ4 => (gP σ4 a0 0 22 4).bind fun p6 => (gP σ4 p6 2 16 0).bind fun p7 => bq (g_X4_all F σ4 p7) fun v9 σ8 => some (v9, σ8)) else none
theorem w_X0_keep {B F : Nat} {d : Nat} {σ : MM} {a0 : Nat} {rf : Int32} {σf : MM} (hd : 2 ≤ d) (h : g_X0_keep F σ a0 = some (rf, σf)) : xMA B yX0_keep cX0_keep 1 (some .int) d 0 0 [rv B a0] σ (some (.int rf)) σf := by
  refine xMA.of (by decide +kernel) (Nat.le_of_ble_eq_true rfl) (cat_rv cat_nil) (fun G C E => ?_)
  unfold g_X0_keep at h
  obtain ⟨-, h⟩ := r_ck h
  refine r_aload_n (pc := 0) (i := 0) C dX0_keep_0 rfl rfl ?_
  refine r_iconst (pc := 1) (v := 1) C dX0_keep_1 (by decide) ?_
  refine r_putZ (pc := 2) C fd_X0_316 ft_X0_10 dX0_keep_2 h (fun σ1 h => ?_)
  refine r_aload_n (pc := 5) (i := 0) C dX0_keep_5 rfl rfl ?_
  refine r_getP (pc := 6) C fd_X0_73 rfl dX0_keep_6 h (fun p2 h => ?_)
  refine r_aload_n (pc := 9) (i := 0) C dX0_keep_9 rfl rfl ?_
  refine r_getP (pc := 10) C fd_X0_66 rfl dX0_keep_10 h (fun p3 h => ?_)
  refine r_callVP (pc := 13) (As := [rv B p3]) (st := []) C cs_X0_184_X3_takes h (fun _ _ e => w_X3_takes (Nat.le_refl 1) e) (fun _ _ e => t_X3_takes e) (Nat.le_trans (Nat.le_of_ble_eq_true rfl) hd) (Nat.le_of_ble_eq_true rfl) dX0_keep_13 (fun p5 σ4 h => ?_)
  refine r_pop (pc := 16) C dX0_keep_16 ?_
  refine r_aload_n (pc := 17) (i := 0) C dX0_keep_17 rfl rfl ?_
  refine r_getP (pc := 18) C fd_X0_66 rfl dX0_keep_18 h (fun p6 h => ?_)
  refine r_getP (pc := 21) C fd_X0_131 rfl dX0_keep_21 h (fun p7 h => ?_)
  refine r_callVI (pc := 24) (As := []) (st := []) C cs_X0_199_X4_all h (fun _ _ e => w_X4_all (Nat.le_refl 1) e) (fun _ _ e => t_X4_all e) (Nat.le_trans (Nat.le_of_ble_eq_true rfl) hd) (Nat.le_of_ble_eq_true rfl) dX0_keep_24 (fun v9 σ8 h => ?_)
  exact r_iret (pc := 27) C rfl dX0_keep_27 h E
theorem t_X0_keep {F : Nat} {σ : MM} {a0 : Nat} {r : Int32 × MM} (h : g_X0_keep F σ a0 = some r) : mT σ a0 = (0, 22) := by
  unfold g_X0_keep at h
  exact (r_ck h).1
def g_X0_undo (F : Nat) (σ : MM) (a0 : Nat) : Option (Int32 × MM) := if mT σ a0 = (0, 22) then ((gI σ a0 0 22 10).bind fun v1 => if v1 = 0 then (some (0, σ)) else ((gP σ a0 0 22 4).bind fun p2 => (gP σ a0 0 22 6).bind fun p3 => bq (g_X3_takes F σ p2 p3) fun p5 σ4 => some (1, σ4))) else none
theorem w_X0_undo {B F : Nat} {d : Nat} {σ : MM} {a0 : Nat} {rf : Int32} {σf : MM} (hd : 2 ≤ d) (h : g_X0_undo F σ a0 = some (rf, σf)) : xMA B yX0_undo cX0_undo 1 (some .boolean) d 0 0 [rv B a0] σ (some (.int rf)) σf := by
  refine xMA.of (by decide +kernel) (Nat.le_of_ble_eq_true rfl) (cat_rv cat_nil) (fun G C E => ?_)
  unfold g_X0_undo at h
  obtain ⟨-, h⟩ := r_ck h
  refine r_aload_n (pc := 0) (i := 0) C dX0_undo_0 rfl rfl ?_
  refine r_getI (pc := 1) C fd_X0_316 rfl dX0_undo_1 h (fun v1 h => ?_)
  refine r_ifne (pc := 4) (tgt := 9) C dX0_undo_4 (by decide) h (fun h => ?_) (fun h => ?_)
  · refine r_aload_n (pc := 9) (i := 0) C dX0_undo_9 rfl rfl ?_
    refine r_getP (pc := 10) C fd_X0_66 rfl dX0_undo_10 h (fun p2 h => ?_)
    refine r_aload_n (pc := 13) (i := 0) C dX0_undo_13 rfl rfl ?_
    refine r_getP (pc := 14) C fd_X0_73 rfl dX0_undo_14 h (fun p3 h => ?_)
    refine r_callVP (pc := 17) (As := [rv B p3]) (st := []) C cs_X0_184_X3_takes h (fun _ _ e => w_X3_takes (Nat.le_refl 1) e) (fun _ _ e => t_X3_takes e) (Nat.le_trans (Nat.le_of_ble_eq_true rfl) hd) (Nat.le_of_ble_eq_true rfl) dX0_undo_17 (fun p5 σ4 h => ?_)
    refine r_pop (pc := 20) C dX0_undo_20 ?_
    refine r_iconst (pc := 21) (v := 1) C dX0_undo_21 (by decide) ?_
    exact r_zretL (pc := 22) C rfl dX0_undo_22 (Or.inr rfl) h E
  · refine r_iconst (pc := 7) (v := 0) C dX0_undo_7 (by decide) ?_
    exact r_zretL (pc := 8) C rfl dX0_undo_8 (Or.inl rfl) h E
theorem t_X0_undo {F : Nat} {σ : MM} {a0 : Nat} {r : Int32 × MM} (h : g_X0_undo F σ a0 = some r) : mT σ a0 = (0, 22) := by
  unfold g_X0_undo at h
  exact (r_ck h).1
def l_X0_check_28 (K : MM → Option (Int32 × MM)) (F : Nat) (a0 : Nat) (x1 : Int32) : Nat → Int32 → MM → Option (Int32 × MM)
  | 0, _, _ => none
  | f + 1, z2, σ => if z2 < x1 then ((gP σ a0 0 22 7).bind fun p5 => (aI σ p5 21 z2).bind fun v6 => bq (g_X0_isTold F σ a0 z2) fun v8 σ7 => jn (fun (w10 : Int32) (σ9 : MM) => if (v6 &&& 255) = w10 then (l_X0_check_28 K F a0 x1 f ((z2 + 1)) σ9) else (some (z2, σ9))) (fun k11 => if v8 = 0 then (k11 0 σ7) else ((gP σ7 a0 0 22 4).bind fun p12 => (gP σ7 p12 2 16 0).bind fun p13 => bq (g_X4_owes F σ7 p13 z2) fun v15 σ14 => k11 ((jmin 255 v15)) σ14))) else (K σ)
def g_X0_check (F : Nat) (σ : MM) (a0 : Nat) (x1 : Int32) : Option (Int32 × MM) := if mT σ a0 = (0, 22) then (bq (g_X0_within F σ x1 0 10) fun v2 σ1 => if v2 = 0 then (some ((-2), σ1)) else ((gI σ1 a0 0 22 9).bind fun v3 => if v3 < x1 then (some ((-2), σ1)) else ((pI σ1 a0 0 22 9 0).bind fun σ4 => l_X0_check_28 (fun (σ18 : MM) => some ((-1), σ18)) F a0 x1 F 0 σ4))) else none
theorem wl_X0_check_28 {B : Nat} {G : XG} {d : Nat} {rf : Int32} {σf : MM} (hd : 2 ≤ d) (C : xC B G yX0_check cX0_check 3 (some .int) d 0 0) (E : xEnd B G (some (.int rf)) σf 0 0) {K : MM → Option (Int32 × MM)} {F : Nat} {a0 : Nat} {x1 : Int32} (hK : ∀ (σ : MM), K σ = some (rf, σf) → xV B G 0 0 σ 83 [] []) : ∀ (f : Nat) (z2 : Int32) (σ : MM), l_X0_check_28 K F a0 x1 f z2 σ = some (rf, σf) → xV B G 0 0 σ 28 [(0, rv B a0), (1, .int x1), (2, .int z2)] [] := by
  intro f
  induction f with
  | zero =>
    intro z2 σ h
    have h : none = some (rf, σf) := h
    cases h
  | succ f ih =>
    intro z2 σ h
    rw [l_X0_check_28.eq_2] at h
    refine r_iload_n (pc := 28) (i := 2) C dX0_check_28 rfl rfl ?_
    refine r_iload_n (pc := 29) (i := 1) C dX0_check_29 rfl rfl ?_
    refine r_icmpge (pc := 30) (tgt := 83) C dX0_check_30 (by decide) h (fun h => ?_) (fun h => ?_)
    · refine r_pick (lv' := []) [] rfl ?_
      exact hK _ h
    · refine r_aload_n (pc := 33) (i := 0) C dX0_check_33 rfl rfl ?_
      refine r_getP (pc := 34) C fd_X0_76 rfl dX0_check_34 h (fun p5 h => ?_)
      refine r_iload_n (pc := 37) (i := 2) C dX0_check_37 rfl rfl ?_
      refine r_bald (pc := 38) C dX0_check_38 h (fun v6 h => ?_)
      refine r_sipush (pc := 39) (v := 255) C dX0_check_39 (by decide) ?_
      refine r_iand (pc := 42) C dX0_check_42 ?_
      refine r_aload_n (pc := 43) (i := 0) C dX0_check_43 rfl rfl ?_
      refine r_iload_n (pc := 44) (i := 2) C dX0_check_44 rfl rfl ?_
      refine r_callVI (pc := 45) (As := [.int z2]) (st := [.int (v6 &&& 255)]) C cs_X0_123_X0_isTold h (fun _ _ e => w_X0_isTold (Nat.le_refl 1) e) (fun _ _ e => t_X0_isTold e) (Nat.le_trans (Nat.le_of_ble_eq_true rfl) hd) (Nat.le_of_ble_eq_true rfl) dX0_check_45 (fun v8 σ7 h => ?_)
      refine r_jn (fun k9 => ∀ (w10 : Int32) (σ9 : MM), k9 w10 σ9 = some (rf, σf) → xV B G 0 0 σ9 72 [(0, rv B a0), (1, .int x1), (2, .int z2)] [.int w10, .int (v6 &&& 255)]) h (fun w10 σ9 h => ?_) (fun k11 hk11 h => ?_)
      · refine r_icmpeq (pc := 72) (tgt := 77) C dX0_check_72 (by decide) h (fun h => ?_) (fun h => ?_)
        · refine r_iinc (pc := 77) (i := 2) (v := (z2 + 1)) C dX0_check_77 rfl rfl (by decide) ?_
          refine r_goto (pc := 80) (tgt := 28) C dX0_check_80 (by decide) ?_
          refine r_pick (lv' := [(0, rv B a0), (1, .int x1), (2, .int (z2 + 1))]) [0, 1, 2] rfl ?_
          exact ih _ _ h
        · refine r_iload_n (pc := 75) (i := 2) C dX0_check_75 rfl rfl ?_
          exact r_iret (pc := 76) C rfl dX0_check_76 h E
      · refine r_ifeq (pc := 48) (tgt := 71) C dX0_check_48 (by decide) h (fun h => ?_) (fun h => ?_)
        · refine r_iconst (pc := 71) (v := 0) C dX0_check_71 (by decide) ?_
          refine r_pick (lv' := [(0, rv B a0), (1, .int x1), (2, .int z2)]) [0, 1, 2] rfl ?_
          exact hk11 _ _ h
        · refine r_sipush (pc := 51) (v := 255) C dX0_check_51 (by decide) ?_
          refine r_aload_n (pc := 54) (i := 0) C dX0_check_54 rfl rfl ?_
          refine r_getP (pc := 55) C fd_X0_66 rfl dX0_check_55 h (fun p12 h => ?_)
          refine r_getP (pc := 58) C fd_X0_131 rfl dX0_check_58 h (fun p13 h => ?_)
          refine r_iload_n (pc := 61) (i := 2) C dX0_check_61 rfl rfl ?_
          refine r_callVI (pc := 62) (As := [.int z2]) (st := [.int 255, .int (v6 &&& 255)]) C cs_X0_214_X4_owes h (fun _ _ e => w_X4_owes (Nat.le_refl 0) e) (fun _ _ e => t_X4_owes e) (Nat.le_trans (Nat.le_of_ble_eq_true rfl) hd) (Nat.le_of_ble_eq_true rfl) dX0_check_62 (fun v15 σ14 h => ?_)
          refine r_mmin (pc := 65) C q1008 q499 q126 q500 (Nat.le_trans (Nat.le_of_ble_eq_true rfl) hd) (Nat.le_of_ble_eq_true rfl) (Nat.le_of_ble_eq_true rfl) (Nat.le_of_ble_eq_true rfl) dX0_check_65 ?_
          refine r_goto (pc := 68) (tgt := 72) C dX0_check_68 (by decide) ?_
          refine r_pick (lv' := [(0, rv B a0), (1, .int x1), (2, .int z2)]) [0, 1, 2] rfl ?_
          exact hk11 _ _ h
theorem w_X0_check {B F : Nat} {d : Nat} {σ : MM} {a0 : Nat} {x1 : Int32} {rf : Int32} {σf : MM} (hd : 2 ≤ d) (h : g_X0_check F σ a0 x1 = some (rf, σf)) : xMA B yX0_check cX0_check 3 (some .int) d 0 0 [rv B a0, .int x1] σ (some (.int rf)) σf := by
  refine xMA.of (by decide +kernel) (Nat.le_of_ble_eq_true rfl) (cat_rv (cat_int cat_nil)) (fun G C E => ?_)
  unfold g_X0_check at h
  obtain ⟨-, h⟩ := r_ck h
  refine r_iload_n (pc := 0) (i := 1) C dX0_check_0 rfl rfl ?_
  refine r_iconst (pc := 1) (v := 0) C dX0_check_1 (by decide) ?_
  refine r_bipush (pc := 2) (v := 10) C dX0_check_2 (by decide) ?_
  refine r_callSI (pc := 4) (As := [.int x1, .int 0, .int 10]) (st := []) C cs_X0_127_X0_within h (fun _ _ e => w_X0_within (Nat.le_refl 0) e) (Nat.le_trans (Nat.le_of_ble_eq_true rfl) hd) (Nat.le_of_ble_eq_true rfl) dX0_check_4 (fun v2 σ1 h => ?_)
  refine r_ifeq (pc := 7) (tgt := 18) C dX0_check_7 (by decide) h (fun h => ?_) (fun h => ?_)
  · refine r_bipush (pc := 18) (v := (-2)) C dX0_check_18 (by decide) ?_
    exact r_iret (pc := 20) C rfl dX0_check_20 h E
  · refine r_iload_n (pc := 10) (i := 1) C dX0_check_10 rfl rfl ?_
    refine r_aload_n (pc := 11) (i := 0) C dX0_check_11 rfl rfl ?_
    refine r_getI (pc := 12) C fd_X0_143 rfl dX0_check_12 h (fun v3 h => ?_)
    refine r_icmple (pc := 15) (tgt := 21) C dX0_check_15 (by decide) h (fun h => ?_) (fun h => ?_)
    · refine r_aload_n (pc := 21) (i := 0) C dX0_check_21 rfl rfl ?_
      refine r_iconst (pc := 22) (v := 0) C dX0_check_22 (by decide) ?_
      refine r_putI (pc := 23) C fd_X0_143 ft_X0_9 dX0_check_23 h (fun σ4 h => ?_)
      refine r_iconst (pc := 26) (v := 0) C dX0_check_26 (by decide) ?_
      refine r_istore_n (pc := 27) (i := 2) C dX0_check_27 rfl (by decide) ?_
      refine r_pick (lv' := [(0, rv B a0), (1, .int x1), (2, .int 0)]) [0, 1, 2] rfl ?_
      refine wl_X0_check_28 hd C E (fun  σ18 h => ?_) _ _ _ h
      refine r_iconst (pc := 83) (v := (-1)) C dX0_check_83 (by decide) ?_
      exact r_iret (pc := 84) C rfl dX0_check_84 h E
    · refine r_bipush (pc := 18) (v := (-2)) C dX0_check_18 (by decide) ?_
      exact r_iret (pc := 20) C rfl dX0_check_20 h E
theorem t_X0_check {F : Nat} {σ : MM} {a0 : Nat} {x1 : Int32} {r : Int32 × MM} (h : g_X0_check F σ a0 x1 = some r) : mT σ a0 = (0, 22) := by
  unfold g_X0_check at h
  exact (r_ck h).1
theorem fd_X0_320 : xFg RX0 320 2 16 6 := ⟨_, rfl, rfl, by decide, by decide, in_X3, Or.inr ⟨_, in_nest q227 rfl⟩⟩
theorem fd_X0_323 : xFg RX0 323 2 16 14 := ⟨_, rfl, rfl, by decide, by decide, in_X3, Or.inr ⟨_, in_nest q244 rfl⟩⟩
theorem fd_X0_83 : xFg RX0 83 0 22 8 := ⟨_, rfl, rfl, by decide, by decide, in_X0, Or.inl q323⟩
theorem fd_X0_326 : xFg RX0 326 4 4 3 := ⟨_, rfl, rfl, by decide, by decide, in_X5, Or.inr ⟨_, in_nest q297 rfl⟩⟩
def g_X0_count (F : Nat) (σ : MM) (a0 : Nat) (x1 : Int32) : Option (Int32 × MM) := if mT σ a0 = (0, 22) then (if x1 = 0 then ((gI σ a0 0 22 2).bind fun v1 => some (v1, σ)) else if x1 = 1 then ((gP σ a0 0 22 4).bind fun p2 => (gP σ p2 2 16 0).bind fun p3 => bq (g_X4_all F σ p3) fun v5 σ4 => some (v5, σ4)) else if x1 = 2 then ((gP σ a0 0 22 4).bind fun p6 => (gI σ p6 2 16 3).bind fun v7 => if v7 = (-1) then (some ((-2), σ)) else ((gP σ a0 0 22 4).bind fun p8 => (gI σ p8 2 16 3).bind fun v9 => some (v9, σ))) else if x1 = 3 then ((gP σ a0 0 22 4).bind fun p10 => (gI σ p10 2 16 5).bind fun v11 => if v11 = (-1) then (some ((-2), σ)) else ((gP σ a0 0 22 4).bind fun p12 => (gI σ p12 2 16 5).bind fun v13 => some (v13, σ))) else if x1 = 4 then ((gP σ a0 0 22 4).bind fun p14 => (gI σ p14 2 16 5).bind fun v15 => if v15 = (-1) then (some (0, σ)) else ((gP σ a0 0 22 4).bind fun p16 => (gI σ p16 2 16 6).bind fun v17 => some (v17, σ))) else if x1 = 5 then ((gP σ a0 0 22 4).bind fun p18 => (gI σ p18 2 16 7).bind fun v19 => some (v19, σ)) else if x1 = 6 then ((gP σ a0 0 22 4).bind fun p20 => (gI σ p20 2 16 8).bind fun v21 => some (v21, σ)) else if x1 = 7 then ((gP σ a0 0 22 4).bind fun p22 => (gI σ p22 2 16 14).bind fun v23 => if v23 = 0 then (some (0, σ)) else (some (1, σ))) else if x1 = 8 then ((gP σ a0 0 22 4).bind fun p24 => bq (g_X3_rows F σ p24) fun v26 σ25 => some (v26, σ25)) else if x1 = 9 then ((gP σ a0 0 22 8).bind fun p27 => (gI σ p27 4 4 3).bind fun v28 => some (v28, σ)) else if x1 = 10 then ((gI σ a0 0 22 9).bind fun v29 => some (v29, σ)) else if x1 = 11 then ((gP σ a0 0 22 4).bind fun p30 => (gI σ p30 2 16 9).bind fun v31 => some (v31, σ)) else (some ((-1), σ))) else none
theorem w_X0_count {B F : Nat} {d : Nat} {σ : MM} {a0 : Nat} {x1 : Int32} {rf : Int32} {σf : MM} (hd : 2 ≤ d) (h : g_X0_count F σ a0 x1 = some (rf, σf)) : xMA B yX0_count cX0_count 2 (some .int) d 0 0 [rv B a0, .int x1] σ (some (.int rf)) σf := by
  refine xMA.of (by decide +kernel) (Nat.le_of_ble_eq_true rfl) (cat_rv (cat_int cat_nil)) (fun G C E => ?_)
  unfold g_X0_count at h
  obtain ⟨-, h⟩ := r_ck h
  refine r_iload_n (pc := 0) (i := 1) C dX0_count_0 rfl rfl ?_
  by_cases c0_1 : x1 = 0
  · rw [if_pos c0_1] at h
    refine r_tswE (pc := 1) (tgt := 64) C dX0_count_1 c0_1 (by decide) (by decide) rfl (by decide) ?_
    refine r_aload_n (pc := 64) (i := 0) C dX0_count_64 rfl rfl ?_
    refine r_getI (pc := 65) C fd_X0_19 rfl dX0_count_65 h (fun v1 h => ?_)
    exact r_iret (pc := 68) C rfl dX0_count_68 h E
  rw [if_neg c0_1] at h
  by_cases c1_1 : x1 = 1
  · rw [if_pos c1_1] at h
    refine r_tswE (pc := 1) (tgt := 69) C dX0_count_1 c1_1 (by decide) (by decide) rfl (by decide) ?_
    refine r_aload_n (pc := 69) (i := 0) C dX0_count_69 rfl rfl ?_
    refine r_getP (pc := 70) C fd_X0_66 rfl dX0_count_70 h (fun p2 h => ?_)
    refine r_getP (pc := 73) C fd_X0_131 rfl dX0_count_73 h (fun p3 h => ?_)
    refine r_callVI (pc := 76) (As := []) (st := []) C cs_X0_199_X4_all h (fun _ _ e => w_X4_all (Nat.le_refl 1) e) (fun _ _ e => t_X4_all e) (Nat.le_trans (Nat.le_of_ble_eq_true rfl) hd) (Nat.le_of_ble_eq_true rfl) dX0_count_76 (fun v5 σ4 h => ?_)
    exact r_iret (pc := 79) C rfl dX0_count_79 h E
  rw [if_neg c1_1] at h
  by_cases c2_1 : x1 = 2
  · rw [if_pos c2_1] at h
    refine r_tswE (pc := 1) (tgt := 80) C dX0_count_1 c2_1 (by decide) (by decide) rfl (by decide) ?_
    refine r_aload_n (pc := 80) (i := 0) C dX0_count_80 rfl rfl ?_
    refine r_getP (pc := 81) C fd_X0_66 rfl dX0_count_81 h (fun p6 h => ?_)
    refine r_getI (pc := 84) C fd_X0_137 rfl dX0_count_84 h (fun v7 h => ?_)
    refine r_iconst (pc := 87) (v := (-1)) C dX0_count_87 (by decide) ?_
    refine r_icmpne (pc := 88) (tgt := 96) C dX0_count_88 (by decide) h (fun h => ?_) (fun h => ?_)
    · refine r_aload_n (pc := 96) (i := 0) C dX0_count_96 rfl rfl ?_
      refine r_getP (pc := 97) C fd_X0_66 rfl dX0_count_97 h (fun p8 h => ?_)
      refine r_getI (pc := 100) C fd_X0_137 rfl dX0_count_100 h (fun v9 h => ?_)
      exact r_iret (pc := 103) C rfl dX0_count_103 h E
    · refine r_bipush (pc := 91) (v := (-2)) C dX0_count_91 (by decide) ?_
      refine r_goto (pc := 93) (tgt := 103) C dX0_count_93 (by decide) ?_
      exact r_iret (pc := 103) C rfl dX0_count_103 h E
  rw [if_neg c2_1] at h
  by_cases c3_1 : x1 = 3
  · rw [if_pos c3_1] at h
    refine r_tswE (pc := 1) (tgt := 104) C dX0_count_1 c3_1 (by decide) (by decide) rfl (by decide) ?_
    refine r_aload_n (pc := 104) (i := 0) C dX0_count_104 rfl rfl ?_
    refine r_getP (pc := 105) C fd_X0_66 rfl dX0_count_105 h (fun p10 h => ?_)
    refine r_getI (pc := 108) C fd_X0_140 rfl dX0_count_108 h (fun v11 h => ?_)
    refine r_iconst (pc := 111) (v := (-1)) C dX0_count_111 (by decide) ?_
    refine r_icmpne (pc := 112) (tgt := 120) C dX0_count_112 (by decide) h (fun h => ?_) (fun h => ?_)
    · refine r_aload_n (pc := 120) (i := 0) C dX0_count_120 rfl rfl ?_
      refine r_getP (pc := 121) C fd_X0_66 rfl dX0_count_121 h (fun p12 h => ?_)
      refine r_getI (pc := 124) C fd_X0_140 rfl dX0_count_124 h (fun v13 h => ?_)
      exact r_iret (pc := 127) C rfl dX0_count_127 h E
    · refine r_bipush (pc := 115) (v := (-2)) C dX0_count_115 (by decide) ?_
      refine r_goto (pc := 117) (tgt := 127) C dX0_count_117 (by decide) ?_
      exact r_iret (pc := 127) C rfl dX0_count_127 h E
  rw [if_neg c3_1] at h
  by_cases c4_1 : x1 = 4
  · rw [if_pos c4_1] at h
    refine r_tswE (pc := 1) (tgt := 128) C dX0_count_1 c4_1 (by decide) (by decide) rfl (by decide) ?_
    refine r_aload_n (pc := 128) (i := 0) C dX0_count_128 rfl rfl ?_
    refine r_getP (pc := 129) C fd_X0_66 rfl dX0_count_129 h (fun p14 h => ?_)
    refine r_getI (pc := 132) C fd_X0_140 rfl dX0_count_132 h (fun v15 h => ?_)
    refine r_iconst (pc := 135) (v := (-1)) C dX0_count_135 (by decide) ?_
    refine r_icmpne (pc := 136) (tgt := 143) C dX0_count_136 (by decide) h (fun h => ?_) (fun h => ?_)
    · refine r_aload_n (pc := 143) (i := 0) C dX0_count_143 rfl rfl ?_
      refine r_getP (pc := 144) C fd_X0_66 rfl dX0_count_144 h (fun p16 h => ?_)
      refine r_getI (pc := 147) C fd_X0_320 rfl dX0_count_147 h (fun v17 h => ?_)
      exact r_iret (pc := 150) C rfl dX0_count_150 h E
    · refine r_iconst (pc := 139) (v := 0) C dX0_count_139 (by decide) ?_
      refine r_goto (pc := 140) (tgt := 150) C dX0_count_140 (by decide) ?_
      exact r_iret (pc := 150) C rfl dX0_count_150 h E
  rw [if_neg c4_1] at h
  by_cases c5_1 : x1 = 5
  · rw [if_pos c5_1] at h
    refine r_tswE (pc := 1) (tgt := 151) C dX0_count_1 c5_1 (by decide) (by decide) rfl (by decide) ?_
    refine r_aload_n (pc := 151) (i := 0) C dX0_count_151 rfl rfl ?_
    refine r_getP (pc := 152) C fd_X0_66 rfl dX0_count_152 h (fun p18 h => ?_)
    refine r_getI (pc := 155) C fd_X0_208 rfl dX0_count_155 h (fun v19 h => ?_)
    exact r_iret (pc := 158) C rfl dX0_count_158 h E
  rw [if_neg c5_1] at h
  by_cases c6_1 : x1 = 6
  · rw [if_pos c6_1] at h
    refine r_tswE (pc := 1) (tgt := 159) C dX0_count_1 c6_1 (by decide) (by decide) rfl (by decide) ?_
    refine r_aload_n (pc := 159) (i := 0) C dX0_count_159 rfl rfl ?_
    refine r_getP (pc := 160) C fd_X0_66 rfl dX0_count_160 h (fun p20 h => ?_)
    refine r_getI (pc := 163) C fd_X0_294 rfl dX0_count_163 h (fun v21 h => ?_)
    exact r_iret (pc := 166) C rfl dX0_count_166 h E
  rw [if_neg c6_1] at h
  by_cases c7_1 : x1 = 7
  · rw [if_pos c7_1] at h
    refine r_tswE (pc := 1) (tgt := 167) C dX0_count_1 c7_1 (by decide) (by decide) rfl (by decide) ?_
    refine r_aload_n (pc := 167) (i := 0) C dX0_count_167 rfl rfl ?_
    refine r_getP (pc := 168) C fd_X0_66 rfl dX0_count_168 h (fun p22 h => ?_)
    refine r_getI (pc := 171) C fd_X0_323 rfl dX0_count_171 h (fun v23 h => ?_)
    refine r_ifeq (pc := 174) (tgt := 181) C dX0_count_174 (by decide) h (fun h => ?_) (fun h => ?_)
    · refine r_iconst (pc := 181) (v := 0) C dX0_count_181 (by decide) ?_
      exact r_iret (pc := 182) C rfl dX0_count_182 h E
    · refine r_iconst (pc := 177) (v := 1) C dX0_count_177 (by decide) ?_
      refine r_goto (pc := 178) (tgt := 182) C dX0_count_178 (by decide) ?_
      exact r_iret (pc := 182) C rfl dX0_count_182 h E
  rw [if_neg c7_1] at h
  by_cases c8_1 : x1 = 8
  · rw [if_pos c8_1] at h
    refine r_tswE (pc := 1) (tgt := 183) C dX0_count_1 c8_1 (by decide) (by decide) rfl (by decide) ?_
    refine r_aload_n (pc := 183) (i := 0) C dX0_count_183 rfl rfl ?_
    refine r_getP (pc := 184) C fd_X0_66 rfl dX0_count_184 h (fun p24 h => ?_)
    refine r_callVI (pc := 187) (As := []) (st := []) C cs_X0_297_X3_rows h (fun _ _ e => w_X3_rows (Nat.le_refl 1) e) (fun _ _ e => t_X3_rows e) (Nat.le_trans (Nat.le_of_ble_eq_true rfl) hd) (Nat.le_of_ble_eq_true rfl) dX0_count_187 (fun v26 σ25 h => ?_)
    exact r_iret (pc := 190) C rfl dX0_count_190 h E
  rw [if_neg c8_1] at h
  by_cases c9_1 : x1 = 9
  · rw [if_pos c9_1] at h
    refine r_tswE (pc := 1) (tgt := 191) C dX0_count_1 c9_1 (by decide) (by decide) rfl (by decide) ?_
    refine r_aload_n (pc := 191) (i := 0) C dX0_count_191 rfl rfl ?_
    refine r_getP (pc := 192) C fd_X0_83 rfl dX0_count_192 h (fun p27 h => ?_)
    refine r_getI (pc := 195) C fd_X0_326 rfl dX0_count_195 h (fun v28 h => ?_)
    exact r_iret (pc := 198) C rfl dX0_count_198 h E
  rw [if_neg c9_1] at h
  by_cases c10_1 : x1 = 10
  · rw [if_pos c10_1] at h
    refine r_tswE (pc := 1) (tgt := 199) C dX0_count_1 c10_1 (by decide) (by decide) rfl (by decide) ?_
    refine r_aload_n (pc := 199) (i := 0) C dX0_count_199 rfl rfl ?_
    refine r_getI (pc := 200) C fd_X0_143 rfl dX0_count_200 h (fun v29 h => ?_)
    exact r_iret (pc := 203) C rfl dX0_count_203 h E
  rw [if_neg c10_1] at h
  by_cases c11_1 : x1 = 11
  · rw [if_pos c11_1] at h
    refine r_tswE (pc := 1) (tgt := 204) C dX0_count_1 c11_1 (by decide) (by decide) rfl (by decide) ?_
    refine r_aload_n (pc := 204) (i := 0) C dX0_count_204 rfl rfl ?_
    refine r_getP (pc := 205) C fd_X0_66 rfl dX0_count_205 h (fun p30 h => ?_)
    refine r_getI (pc := 208) C fd_X0_120 rfl dX0_count_208 h (fun v31 h => ?_)
    exact r_iret (pc := 211) C rfl dX0_count_211 h E
  rw [if_neg c11_1] at h
  refine r_dfl (st := []) (tgt := 212) (pc := 1) ?_ (fun hD => ?_)
  · refine r_iconst (pc := 212) (v := (-1)) C dX0_count_212 (by decide) ?_
    exact r_iret (pc := 213) C rfl dX0_count_213 h E
  have n0_1 := tsw_ne (i := 0) c0_1 (by decide)
  have n1_1 := tsw_ne (i := 1) c1_1 (by decide)
  have n2_1 := tsw_ne (i := 2) c2_1 (by decide)
  have n3_1 := tsw_ne (i := 3) c3_1 (by decide)
  have n4_1 := tsw_ne (i := 4) c4_1 (by decide)
  have n5_1 := tsw_ne (i := 5) c5_1 (by decide)
  have n6_1 := tsw_ne (i := 6) c6_1 (by decide)
  have n7_1 := tsw_ne (i := 7) c7_1 (by decide)
  have n8_1 := tsw_ne (i := 8) c8_1 (by decide)
  have n9_1 := tsw_ne (i := 9) c9_1 (by decide)
  have n10_1 := tsw_ne (i := 10) c10_1 (by decide)
  have n11_1 := tsw_ne (i := 11) c11_1 (by decide)
  exact r_tswO (pc := 1) (tgt := 212) C dX0_count_1 (by omega) (by decide) hD
theorem t_X0_count {F : Nat} {σ : MM} {a0 : Nat} {x1 : Int32} {r : Int32 × MM} (h : g_X0_count F σ a0 x1 = some r) : mT σ a0 = (0, 22) := by
  unfold g_X0_count at h
  exact (r_ck h).1
