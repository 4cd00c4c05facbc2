set_option maxRecDepth 100000
theorem yd_X6_comesTo : xYd yX6_comesTo 2 := ⟨by decide +kernel, by decide +kernel, by decide +kernel⟩
theorem cs_X6_262_X6_comesTo : xCV RX6 262 yX6_comesTo cX6_comesTo 8 (some .int) 5 62 2 := ⟨by decide, by decide, _, rfl, yd_X6_comesTo, Or.inl ⟨rfl, lw_V q1633 q1635 qs79 q122 q1636⟩⟩
def l_X6_byLaw_2 (K : MM → Option (Int32 × MM)) (F : Nat) (a0 : Nat) (x1 : Int32) (x2 : Int32) : Nat → Int32 → MM → Option (Int32 × MM)
  | 0, _, _ => none
  | f + 1, z3, σ => (gI σ a0 5 62 16).bind fun v1 => if z3 < v1 then ((gP σ a0 5 62 24).bind fun p2 => (aI σ p2 20 z3).bind fun v3 => if v3 = x1 then ((gP σ a0 5 62 26).bind fun p4 => (aI σ p4 20 z3).bind fun v5 => (gP σ a0 5 62 27).bind fun p6 => (aI σ p6 20 z3).bind fun v7 => bq (g_X6_comesTo F σ a0 v5 v7) fun v9 σ8 => if v9 = 1 then ((gP σ8 a0 5 62 25).bind fun p10 => (aI σ8 p10 20 z3).bind fun v11 => (gP σ8 a0 5 62 26).bind fun p12 => (aI σ8 p12 20 z3).bind fun v13 => bq (g_X6_comesTo F σ8 a0 v11 v13) fun v15 σ14 => if v15 < 0 then (some (0, σ14)) else (if x2 < v15 then (some (x2, σ14)) else (some (v15, σ14)))) else (l_X6_byLaw_2 K F a0 x1 x2 f ((z3 + 1)) σ8)) else (l_X6_byLaw_2 K F a0 x1 x2 f ((z3 + 1)) σ)) else (K σ)
def g_X6_byLaw (F : Nat) (σ : MM) (a0 : Nat) (x1 : Int32) (x2 : Int32) : Option (Int32 × MM) := if mT σ a0 = (5, 62) then (l_X6_byLaw_2 (fun (σ16 : MM) => some (0, σ16)) F a0 x1 x2 F 0 σ) else none
theorem wl_X6_byLaw_2 {B : Nat} {G : XG} {d : Nat} {rf : Int32} {σf : MM} (hd : 2 ≤ d) (C : xC B G yX6_byLaw cX6_byLaw 5 (some .int) d 0 0) (E : xEnd B G (some (.int rf)) σf 0 0) {K : MM → Option (Int32 × MM)} {F : Nat} {a0 : Nat} {x1 : Int32} {x2 : Int32} (hK : ∀ (σ : MM), K σ = some (rf, σf) → xV B G 0 0 σ 89 [] []) : ∀ (f : Nat) (z3 : Int32) (σ : MM), l_X6_byLaw_2 K F a0 x1 x2 f z3 σ = some (rf, σf) → xV B G 0 0 σ 2 [(0, rv B a0), (1, .int x1), (2, .int x2), (3, .int z3)] [] := by
  intro f
  induction f with
  | zero =>
    intro z3 σ h
    have h : none = some (rf, σf) := h
    cases h
  | succ f ih =>
    intro z3 σ h
    rw [l_X6_byLaw_2.eq_2] at h
    refine r_iload_n (pc := 2) (i := 3) C dX6_byLaw_2 rfl rfl ?_
    refine r_aload_n (pc := 3) (i := 0) C dX6_byLaw_3 rfl rfl ?_
    refine r_getI (pc := 4) C fd_X6_255 rfl dX6_byLaw_4 h (fun v1 h => ?_)
    refine r_icmpge (pc := 7) (tgt := 89) C dX6_byLaw_7 (by decide) h (fun h => ?_) (fun h => ?_)
    · refine r_pick (lv' := []) [] rfl ?_
      exact hK _ h
    · refine r_aload_n (pc := 10) (i := 0) C dX6_byLaw_10 rfl rfl ?_
      refine r_getP (pc := 11) C fd_X6_50 rfl dX6_byLaw_11 h (fun p2 h => ?_)
      refine r_iload_n (pc := 14) (i := 3) C dX6_byLaw_14 rfl rfl ?_
      refine r_iald (pc := 15) C dX6_byLaw_15 h (fun v3 h => ?_)
      refine r_iload_n (pc := 16) (i := 1) C dX6_byLaw_16 rfl rfl ?_
      refine r_icmpne (pc := 17) (tgt := 83) C dX6_byLaw_17 (by decide) h (fun h => ?_) (fun h => ?_)
      · refine r_iinc (pc := 83) (i := 3) (v := (z3 + 1)) C dX6_byLaw_83 rfl rfl (by decide) ?_
        refine r_goto (pc := 86) (tgt := 2) C dX6_byLaw_86 (by decide) ?_
        refine r_pick (lv' := [(0, rv B a0), (1, .int x1), (2, .int x2), (3, .int (z3 + 1))]) [0, 1, 2, 3] rfl ?_
        exact ih _ _ h
      · refine r_aload_n (pc := 20) (i := 0) C dX6_byLaw_20 rfl rfl ?_
        refine r_aload_n (pc := 21) (i := 0) C dX6_byLaw_21 rfl rfl ?_
        refine r_getP (pc := 22) C fd_X6_56 rfl dX6_byLaw_22 h (fun p4 h => ?_)
        refine r_iload_n (pc := 25) (i := 3) C dX6_byLaw_25 rfl rfl ?_
        refine r_iald (pc := 26) C dX6_byLaw_26 h (fun v5 h => ?_)
        refine r_aload_n (pc := 27) (i := 0) C dX6_byLaw_27 rfl rfl ?_
        refine r_getP (pc := 28) C fd_X6_59 rfl dX6_byLaw_28 h (fun p6 h => ?_)
        refine r_iload_n (pc := 31) (i := 3) C dX6_byLaw_31 rfl rfl ?_
        refine r_iald (pc := 32) C dX6_byLaw_32 h (fun v7 h => ?_)
        refine r_callVI (pc := 33) (As := [.int v5, .int v7]) (st := []) C cs_X6_262_X6_comesTo h (fun _ _ e => w_X6_comesTo (Nat.le_refl 1) e) (fun _ _ e => t_X6_comesTo e) (Nat.le_trans (Nat.le_of_ble_eq_true rfl) hd) (Nat.le_of_ble_eq_true rfl) dX6_byLaw_33 (fun v9 σ8 h => ?_)
        refine r_iconst (pc := 36) (v := 1) C dX6_byLaw_36 (by decide) ?_
        refine r_icmpeq (pc := 37) (tgt := 43) C dX6_byLaw_37 (by decide) h (fun h => ?_) (fun h => ?_)
        · refine r_aload_n (pc := 43) (i := 0) C dX6_byLaw_43 rfl rfl ?_
          refine r_aload_n (pc := 44) (i := 0) C dX6_byLaw_44 rfl rfl ?_
          refine r_getP (pc := 45) C fd_X6_53 rfl dX6_byLaw_45 h (fun p10 h => ?_)
          refine r_iload_n (pc := 48) (i := 3) C dX6_byLaw_48 rfl rfl ?_
          refine r_iald (pc := 49) C dX6_byLaw_49 h (fun v11 h => ?_)
          refine r_aload_n (pc := 50) (i := 0) C dX6_byLaw_50 rfl rfl ?_
          refine r_getP (pc := 51) C fd_X6_56 rfl dX6_byLaw_51 h (fun p12 h => ?_)
          refine r_iload_n (pc := 54) (i := 3) C dX6_byLaw_54 rfl rfl ?_
          refine r_iald (pc := 55) C dX6_byLaw_55 h (fun v13 h => ?_)
          refine r_callVI (pc := 56) (As := [.int v11, .int v13]) (st := []) C cs_X6_262_X6_comesTo h (fun _ _ e => w_X6_comesTo (Nat.le_refl 1) e) (fun _ _ e => t_X6_comesTo e) (Nat.le_trans (Nat.le_of_ble_eq_true rfl) hd) (Nat.le_of_ble_eq_true rfl) dX6_byLaw_56 (fun v15 σ14 h => ?_)
          refine r_istore (pc := 59) (i := 4) C dX6_byLaw_59 (by decide) ?_
          refine r_iload (pc := 61) (i := 4) C dX6_byLaw_61 rfl ?_
          refine r_ifge (pc := 63) (tgt := 70) C dX6_byLaw_63 (by decide) h (fun h => ?_) (fun h => ?_)
          · refine r_iload (pc := 70) (i := 4) C dX6_byLaw_70 rfl ?_
            refine r_iload_n (pc := 72) (i := 2) C dX6_byLaw_72 rfl rfl ?_
            refine r_icmple (pc := 73) (tgt := 80) C dX6_byLaw_73 (by decide) h (fun h => ?_) (fun h => ?_)
            · refine r_iload (pc := 80) (i := 4) C dX6_byLaw_80 rfl ?_
              exact r_iret (pc := 82) C rfl dX6_byLaw_82 h E
            · refine r_iload_n (pc := 76) (i := 2) C dX6_byLaw_76 rfl rfl ?_
              refine r_goto (pc := 77) (tgt := 82) C dX6_byLaw_77 (by decide) ?_
              exact r_iret (pc := 82) C rfl dX6_byLaw_82 h E
          · refine r_iconst (pc := 66) (v := 0) C dX6_byLaw_66 (by decide) ?_
            refine r_goto (pc := 67) (tgt := 82) C dX6_byLaw_67 (by decide) ?_
            exact r_iret (pc := 82) C rfl dX6_byLaw_82 h E
        · refine r_goto (pc := 40) (tgt := 83) C dX6_byLaw_40 (by decide) ?_
          refine r_iinc (pc := 83) (i := 3) (v := (z3 + 1)) C dX6_byLaw_83 rfl rfl (by decide) ?_
          refine r_goto (pc := 86) (tgt := 2) C dX6_byLaw_86 (by decide) ?_
          refine r_pick (lv' := [(0, rv B a0), (1, .int x1), (2, .int x2), (3, .int (z3 + 1))]) [0, 1, 2, 3] rfl ?_
          exact ih _ _ h
theorem w_X6_byLaw {B F : Nat} {d : Nat} {σ : MM} {a0 : Nat} {x1 : Int32} {x2 : Int32} {rf : Int32} {σf : MM} (hd : 2 ≤ d) (h : g_X6_byLaw F σ a0 x1 x2 = some (rf, σf)) : xMA B yX6_byLaw cX6_byLaw 5 (some .int) d 0 0 [rv B a0, .int x1, .int x2] σ (some (.int rf)) σf := by
  refine xMA.of (by decide +kernel) (Nat.le_of_ble_eq_true rfl) (cat_rv (cat_int (cat_int cat_nil))) (fun G C E => ?_)
  unfold g_X6_byLaw at h
  obtain ⟨-, h⟩ := r_ck h
  refine r_iconst (pc := 0) (v := 0) C dX6_byLaw_0 (by decide) ?_
  refine r_istore_n (pc := 1) (i := 3) C dX6_byLaw_1 rfl (by decide) ?_
  refine r_pick (lv' := [(0, rv B a0), (1, .int x1), (2, .int x2), (3, .int 0)]) [0, 1, 2, 3] rfl ?_
  refine wl_X6_byLaw_2 hd C E (fun  σ16 h => ?_) _ _ _ h
  refine r_iconst (pc := 89) (v := 0) C dX6_byLaw_89 (by decide) ?_
  exact r_iret (pc := 90) C rfl dX6_byLaw_90 h E
theorem t_X6_byLaw {F : Nat} {σ : MM} {a0 : Nat} {x1 : Int32} {x2 : Int32} {r : Int32 × MM} (h : g_X6_byLaw F σ a0 x1 x2 = some r) : mT σ a0 = (5, 62) := by
  unfold g_X6_byLaw at h
  exact (r_ck h).1
theorem yd_X6_feels : xYd yX6_feels 1 := ⟨by decide +kernel, by decide +kernel, by decide +kernel⟩
theorem cs_X6_265_X6_feels : xCV RX6 265 yX6_feels cX6_feels 3 none 5 62 1 := ⟨by decide, by decide, _, rfl, yd_X6_feels, Or.inl ⟨rfl, lw_V q1625 q1627 qs77 q122 q1628⟩⟩
theorem yd_X6_byLaw : xYd yX6_byLaw 2 := ⟨by decide +kernel, by decide +kernel, by decide +kernel⟩
theorem cs_X6_280_X6_byLaw : xCV RX6 280 yX6_byLaw cX6_byLaw 5 (some .int) 5 62 2 := ⟨by decide, by decide, _, rfl, yd_X6_byLaw, Or.inl ⟨rfl, lw_V q1629 q1631 qs78 q122 q1632⟩⟩
def g_X6_rainBy (F : Nat) (σ : MM) (a0 : Nat) : Option (Int32 × MM) := if mT σ a0 = (5, 62) then ((g_X6_feels F σ a0 0).bind fun σ1 => bq (g_X6_byLaw F σ1 a0 114 10) fun v3 σ2 => some (v3, σ2)) else none
theorem w_X6_rainBy {B F : Nat} {d : Nat} {σ : MM} {a0 : Nat} {rf : Int32} {σf : MM} (hd : 3 ≤ d) (h : g_X6_rainBy F σ a0 = some (rf, σf)) : xMA B yX6_rainBy cX6_rainBy 1 (some .int) d 0 0 [rv B a0] σ (some (.int rf)) σf := by
  refine xMA.of (by decide +kernel) (Nat.le_of_ble_eq_true rfl) (cat_rv cat_nil) (fun G C E => ?_)
  unfold g_X6_rainBy at h
  obtain ⟨-, h⟩ := r_ck h
  refine r_aload_n (pc := 0) (i := 0) C dX6_rainBy_0 rfl rfl ?_
  refine r_iconst (pc := 1) (v := 0) C dX6_rainBy_1 (by decide) ?_
  refine r_callVV (pc := 2) (As := [.int 0]) (st := []) C cs_X6_265_X6_feels h (fun _ e => w_X6_feels (Nat.le_refl 0) e) (fun _ e => t_X6_feels e) (Nat.le_trans (Nat.le_of_ble_eq_true rfl) hd) (Nat.le_of_ble_eq_true rfl) dX6_rainBy_2 (fun σ1 h => ?_)
  refine r_aload_n (pc := 5) (i := 0) C dX6_rainBy_5 rfl rfl ?_
  refine r_bipush (pc := 6) (v := 114) C dX6_rainBy_6 (by decide) ?_
  refine r_bipush (pc := 8) (v := 10) C dX6_rainBy_8 (by decide) ?_
  refine r_callVI (pc := 10) (As := [.int 114, .int 10]) (st := []) C cs_X6_280_X6_byLaw h (fun _ _ e => w_X6_byLaw (Nat.le_refl 2) e) (fun _ _ e => t_X6_byLaw e) (Nat.le_trans (Nat.le_of_ble_eq_true rfl) hd) (Nat.le_of_ble_eq_true rfl) dX6_rainBy_10 (fun v3 σ2 h => ?_)
  exact r_iret (pc := 13) C rfl dX6_rainBy_13 h E
theorem t_X6_rainBy {F : Nat} {σ : MM} {a0 : Nat} {r : Int32 × MM} (h : g_X6_rainBy F σ a0 = some r) : mT σ a0 = (5, 62) := by
  unfold g_X6_rainBy at h
  exact (r_ck h).1
def g_X6_size (F : Nat) (σ : MM) (x0 : Int32) : Option (Int32 × MM) := if x0 < 0 then (some ((-x0), σ)) else (some (x0, σ))
theorem w_X6_size {B F : Nat} {d : Nat} {σ : MM} {x0 : Int32} {rf : Int32} {σf : MM} (hd : 0 ≤ d) (h : g_X6_size F σ x0 = some (rf, σf)) : xMA B yX6_size cX6_size 1 (some .int) d 0 0 [.int x0] σ (some (.int rf)) σf := by
  refine xMA.of (by decide +kernel) (Nat.le_of_ble_eq_true rfl) (cat_int cat_nil) (fun G C E => ?_)
  unfold g_X6_size at h
  refine r_iload_n (pc := 0) (i := 0) C dX6_size_0 rfl rfl ?_
  refine r_ifge (pc := 1) (tgt := 9) C dX6_size_1 (by decide) h (fun h => ?_) (fun h => ?_)
  · refine r_iload_n (pc := 9) (i := 0) C dX6_size_9 rfl rfl ?_
    exact r_iret (pc := 10) C rfl dX6_size_10 h E
  · refine r_iload_n (pc := 4) (i := 0) C dX6_size_4 rfl rfl ?_
    refine r_ineg (pc := 5) C dX6_size_5 ?_
    refine r_goto (pc := 6) (tgt := 10) C dX6_size_6 (by decide) ?_
    exact r_iret (pc := 10) C rfl dX6_size_10 h E
def g_X6_max (F : Nat) (σ : MM) (x0 : Int32) (x1 : Int32) : Option (Int32 × MM) := if x1 < x0 then (some (x0, σ)) else (some (x1, σ))
theorem w_X6_max {B F : Nat} {d : Nat} {σ : MM} {x0 : Int32} {x1 : Int32} {rf : Int32} {σf : MM} (hd : 0 ≤ d) (h : g_X6_max F σ x0 x1 = some (rf, σf)) : xMA B yX6_max cX6_max 2 (some .int) d 0 0 [.int x0, .int x1] σ (some (.int rf)) σf := by
  refine xMA.of (by decide +kernel) (Nat.le_of_ble_eq_true rfl) (cat_int (cat_int cat_nil)) (fun G C E => ?_)
  unfold g_X6_max at h
  refine r_iload_n (pc := 0) (i := 0) C dX6_max_0 rfl rfl ?_
  refine r_iload_n (pc := 1) (i := 1) C dX6_max_1 rfl rfl ?_
  refine r_icmple (pc := 2) (tgt := 9) C dX6_max_2 (by decide) h (fun h => ?_) (fun h => ?_)
  · refine r_iload_n (pc := 9) (i := 1) C dX6_max_9 rfl rfl ?_
    exact r_iret (pc := 10) C rfl dX6_max_10 h E
  · refine r_iload_n (pc := 5) (i := 0) C dX6_max_5 rfl rfl ?_
    refine r_goto (pc := 6) (tgt := 10) C dX6_max_6 (by decide) ?_
    exact r_iret (pc := 10) C rfl dX6_max_10 h E
theorem yd_X6_size : xYd yX6_size 1 := ⟨by decide +kernel, by decide +kernel, by decide +kernel⟩
theorem cs_X6_139_X6_size : xCS RX6 139 yX6_size cX6_size 1 (some .int) 1 := ⟨by decide, yd_X6_size, Or.inl (lw_S q1648 q1649 q122 q1650)⟩
theorem yd_X6_max : xYd yX6_max 2 := ⟨by decide +kernel, by decide +kernel, by decide +kernel⟩
theorem cs_X6_143_X6_max : xCS RX6 143 yX6_max cX6_max 2 (some .int) 2 := ⟨by decide, yd_X6_max, Or.inl (lw_S q1651 q1652 q122 q1653)⟩
def g_X6_wayOf (F : Nat) (σ : MM) (a0 : Nat) (x1 : Int32) (x2 : Int32) : Option (Int32 × MM) := if mT σ a0 = (5, 62) then ((gP σ a0 5 62 3).bind fun p1 => (aI σ p1 20 x1).bind fun v2 => (gP σ a0 5 62 3).bind fun p3 => (aI σ p3 20 x2).bind fun v4 => bq (g_X6_size F σ ((v2 - v4))) fun v6 σ5 => (gP σ5 a0 5 62 4).bind fun p7 => (aI σ5 p7 20 x1).bind fun v8 => (gP σ5 a0 5 62 4).bind fun p9 => (aI σ5 p9 20 x2).bind fun v10 => bq (g_X6_size F σ5 ((v8 - v10))) fun v12 σ11 => bq (g_X6_max F σ11 1 ((v6 + v12))) fun v14 σ13 => some (v14, σ13)) else none
theorem w_X6_wayOf {B F : Nat} {d : Nat} {σ : MM} {a0 : Nat} {x1 : Int32} {x2 : Int32} {rf : Int32} {σf : MM} (hd : 1 ≤ d) (h : g_X6_wayOf F σ a0 x1 x2 = some (rf, σf)) : xMA B yX6_wayOf cX6_wayOf 3 (some .int) d 0 0 [rv B a0, .int x1, .int x2] σ (some (.int rf)) σf := by
  refine xMA.of (by decide +kernel) (Nat.le_of_ble_eq_true rfl) (cat_rv (cat_int (cat_int cat_nil))) (fun G C E => ?_)
  unfold g_X6_wayOf at h
  obtain ⟨-, h⟩ := r_ck h
  refine r_iconst (pc := 0) (v := 1) C dX6_wayOf_0 (by decide) ?_
  refine r_aload_n (pc := 1) (i := 0) C dX6_wayOf_1 rfl rfl ?_
  refine r_getP (pc := 2) C fd_X6_19 rfl dX6_wayOf_2 h (fun p1 h => ?_)
  refine r_iload_n (pc := 5) (i := 1) C dX6_wayOf_5 rfl rfl ?_
  refine r_iald (pc := 6) C dX6_wayOf_6 h (fun v2 h => ?_)
  refine r_aload_n (pc := 7) (i := 0) C dX6_wayOf_7 rfl rfl ?_
  refine r_getP (pc := 8) C fd_X6_19 rfl dX6_wayOf_8 h (fun p3 h => ?_)
  refine r_iload_n (pc := 11) (i := 2) C dX6_wayOf_11 rfl rfl ?_
  refine r_iald (pc := 12) C dX6_wayOf_12 h (fun v4 h => ?_)
  refine r_isub (pc := 13) C dX6_wayOf_13 ?_
  refine r_callSI (pc := 14) (As := [.int (v2 - v4)]) (st := [.int 1]) C cs_X6_139_X6_size h (fun _ _ e => w_X6_size (Nat.le_refl 0) e) (Nat.le_trans (Nat.le_of_ble_eq_true rfl) hd) (Nat.le_of_ble_eq_true rfl) dX6_wayOf_14 (fun v6 σ5 h => ?_)
  refine r_aload_n (pc := 17) (i := 0) C dX6_wayOf_17 rfl rfl ?_
  refine r_getP (pc := 18) C fd_X6_22 rfl dX6_wayOf_18 h (fun p7 h => ?_)
  refine r_iload_n (pc := 21) (i := 1) C dX6_wayOf_21 rfl rfl ?_
  refine r_iald (pc := 22) C dX6_wayOf_22 h (fun v8 h => ?_)
  refine r_aload_n (pc := 23) (i := 0) C dX6_wayOf_23 rfl rfl ?_
  refine r_getP (pc := 24) C fd_X6_22 rfl dX6_wayOf_24 h (fun p9 h => ?_)
  refine r_iload_n (pc := 27) (i := 2) C dX6_wayOf_27 rfl rfl ?_
  refine r_iald (pc := 28) C dX6_wayOf_28 h (fun v10 h => ?_)
  refine r_isub (pc := 29) C dX6_wayOf_29 ?_
  refine r_callSI (pc := 30) (As := [.int (v8 - v10)]) (st := [.int v6, .int 1]) C cs_X6_139_X6_size h (fun _ _ e => w_X6_size (Nat.le_refl 0) e) (Nat.le_trans (Nat.le_of_ble_eq_true rfl) hd) (Nat.le_of_ble_eq_true rfl) dX6_wayOf_30 (fun v12 σ11 h => ?_)
  refine r_iadd (pc := 33) C dX6_wayOf_33 ?_
  refine r_callSI (pc := 34) (As := [.int 1, .int (v6 + v12)]) (st := []) C cs_X6_143_X6_max h (fun _ _ e => w_X6_max (Nat.le_refl 0) e) (Nat.le_trans (Nat.le_of_ble_eq_true rfl) hd) (Nat.le_of_ble_eq_true rfl) dX6_wayOf_34 (fun v14 σ13 h => ?_)
  exact r_iret (pc := 37) C rfl dX6_wayOf_37 h E
theorem t_X6_wayOf {F : Nat} {σ : MM} {a0 : Nat} {x1 : Int32} {x2 : Int32} {r : Int32 × MM} (h : g_X6_wayOf F σ a0 x1 x2 = some r) : mT σ a0 = (5, 62) := by
  unfold g_X6_wayOf at h
  exact (r_ck h).1
def l_X6_chalksOf_4 (K : Int32 → MM → Option (Int32 × MM)) (F : Nat) (a0 : Nat) (x1 : Int32) : Nat → Int32 → Int32 → MM → Option (Int32 × MM)
  | 0, _, _, _ => none
  | f + 1, z2, z3, σ => (gP σ a0 5 62 0).bind fun p1 => (aI σ p1 20 150).bind fun v2 => if z3 < v2 then ((gP σ a0 5 62 0).bind fun p3 => (aI σ p3 20 ((110 + z3))).bind fun v4 => jn (fun (w6 : Int32) (σ5 : MM) => l_X6_chalksOf_4 K F a0 x1 f ((z2 + w6)) ((z3 + 1)) σ5) (fun k7 => if v4 = x1 then (k7 1 σ) else (k7 0 σ))) else (K z2 σ)
def g_X6_chalksOf (F : Nat) (σ : MM) (a0 : Nat) (x1 : Int32) : Option (Int32 × MM) := if mT σ a0 = (5, 62) then (l_X6_chalksOf_4 (fun (r2_9 : Int32) (σ8 : MM) => some (r2_9, σ8)) F a0 x1 F 0 0 σ) else none
theorem wl_X6_chalksOf_4 {B : Nat} {G : XG} {d : Nat} {rf : Int32} {σf : MM} (hd : 0 ≤ d) (C : xC B G yX6_chalksOf cX6_chalksOf 4 (some .int) d 0 0) (E : xEnd B G (some (.int rf)) σf 0 0) {K : Int32 → MM → Option (Int32 × MM)} {F : Nat} {a0 : Nat} {x1 : Int32} (hK : ∀ (q2 : Int32) (σ : MM), K q2 σ = some (rf, σf) → xV B G 0 0 σ 43 [(2, .int q2)] []) : ∀ (f : Nat) (z2 : Int32) (z3 : Int32) (σ : MM), l_X6_chalksOf_4 K F a0 x1 f z2 z3 σ = some (rf, σf) → xV B G 0 0 σ 4 [(0, rv B a0), (1, .int x1), (2, .int z2), (3, .int z3)] [] := by
  intro f
  induction f with
  | zero =>
    intro z2 z3 σ h
    have h : none = some (rf, σf) := h
    cases h
  | succ f ih =>
    intro z2 z3 σ h
    rw [l_X6_chalksOf_4.eq_2] at h
    refine r_iload_n (pc := 4) (i := 3) C dX6_chalksOf_4 rfl rfl ?_
    refine r_aload_n (pc := 5) (i := 0) C dX6_chalksOf_5 rfl rfl ?_
    refine r_getP (pc := 6) C fd_X6_7 rfl dX6_chalksOf_6 h (fun p1 h => ?_)
    refine r_sipush (pc := 9) (v := 150) C dX6_chalksOf_9 (by decide) ?_
    refine r_iald (pc := 12) C dX6_chalksOf_12 h (fun v2 h => ?_)
    refine r_icmpge (pc := 13) (tgt := 43) C dX6_chalksOf_13 (by decide) h (fun h => ?_) (fun h => ?_)
    · refine r_pick (lv' := [(2, .int z2)]) [2] rfl ?_
      exact hK _ _ h
    · refine r_iload_n (pc := 16) (i := 2) C dX6_chalksOf_16 rfl rfl ?_
      refine r_aload_n (pc := 17) (i := 0) C dX6_chalksOf_17 rfl rfl ?_
      refine r_getP (pc := 18) C fd_X6_7 rfl dX6_chalksOf_18 h (fun p3 h => ?_)
      refine r_bipush (pc := 21) (v := 110) C dX6_chalksOf_21 (by decide) ?_
      refine r_iload_n (pc := 23) (i := 3) C dX6_chalksOf_23 rfl rfl ?_
      refine r_iadd (pc := 24) C dX6_chalksOf_24 ?_
      refine r_iald (pc := 25) C dX6_chalksOf_25 h (fun v4 h => ?_)
      refine r_iload_n (pc := 26) (i := 1) C dX6_chalksOf_26 rfl rfl ?_
      refine r_jn (fun k9 => ∀ (w6 : Int32) (σ5 : MM), k9 w6 σ5 = some (rf, σf) → xV B G 0 0 σ5 35 [(0, rv B a0), (1, .int x1), (3, .int z3)] [.int w6, .int z2]) h (fun w6 σ5 h => ?_) (fun k7 hk7 h => ?_)
      · refine r_iadd (pc := 35) C dX6_chalksOf_35 ?_
        refine r_istore_n (pc := 36) (i := 2) C dX6_chalksOf_36 rfl (by decide) ?_
        refine r_iinc (pc := 37) (i := 3) (v := (z3 + 1)) C dX6_chalksOf_37 rfl rfl (by decide) ?_
        refine r_goto (pc := 40) (tgt := 4) C dX6_chalksOf_40 (by decide) ?_
        refine r_pick (lv' := [(0, rv B a0), (1, .int x1), (2, .int (z2 + w6)), (3, .int (z3 + 1))]) [0, 1, 2, 3] rfl ?_
        exact ih _ _ _ h
      · refine r_icmpne (pc := 27) (tgt := 34) C dX6_chalksOf_27 (by decide) h (fun h => ?_) (fun h => ?_)
        · refine r_iconst (pc := 34) (v := 0) C dX6_chalksOf_34 (by decide) ?_
          refine r_pick (lv' := [(0, rv B a0), (1, .int x1), (3, .int z3)]) [0, 1, 3] rfl ?_
          exact hk7 _ _ h
        · refine r_iconst (pc := 30) (v := 1) C dX6_chalksOf_30 (by decide) ?_
          refine r_goto (pc := 31) (tgt := 35) C dX6_chalksOf_31 (by decide) ?_
          refine r_pick (lv' := [(0, rv B a0), (1, .int x1), (3, .int z3)]) [0, 1, 3] rfl ?_
          exact hk7 _ _ h
theorem w_X6_chalksOf {B F : Nat} {d : Nat} {σ : MM} {a0 : Nat} {x1 : Int32} {rf : Int32} {σf : MM} (hd : 0 ≤ d) (h : g_X6_chalksOf F σ a0 x1 = some (rf, σf)) : xMA B yX6_chalksOf cX6_chalksOf 4 (some .int) d 0 0 [rv B a0, .int x1] σ (some (.int rf)) σf := by
  refine xMA.of (by decide +kernel) (Nat.le_of_ble_eq_true rfl) (cat_rv (cat_int cat_nil)) (fun G C E => ?_)
  unfold g_X6_chalksOf at h
  obtain ⟨-, h⟩ := r_ck h
  refine r_iconst (pc := 0) (v := 0) C dX6_chalksOf_0 (by decide) ?_
  refine r_istore_n (pc := 1) (i := 2) C dX6_chalksOf_1 rfl (by decide) ?_
  refine r_iconst (pc := 2) (v := 0) C dX6_chalksOf_2 (by decide) ?_
  refine r_istore_n (pc := 3) (i := 3) C dX6_chalksOf_3 rfl (by decide) ?_
  refine r_pick (lv' := [(0, rv B a0), (1, .int x1), (2, .int 0), (3, .int 0)]) [0, 1, 2, 3] rfl ?_
  refine wl_X6_chalksOf_4 hd C E (fun r2_9 σ8 h => ?_) _ _ _ _ h
  refine r_iload_n (pc := 43) (i := 2) C dX6_chalksOf_43 rfl rfl ?_
  exact r_iret (pc := 44) C rfl dX6_chalksOf_44 h E
theorem t_X6_chalksOf {F : Nat} {σ : MM} {a0 : Nat} {x1 : Int32} {r : Int32 × MM} (h : g_X6_chalksOf F σ a0 x1 = some r) : mT σ a0 = (5, 62) := by
  unfold g_X6_chalksOf at h
  exact (r_ck h).1
theorem yd_X6_wayOf : xYd yX6_wayOf 2 := ⟨by decide +kernel, by decide +kernel, by decide +kernel⟩
theorem cs_X6_268_X6_wayOf : xCV RX6 268 yX6_wayOf cX6_wayOf 3 (some .int) 5 62 2 := ⟨by decide, by decide, _, rfl, yd_X6_wayOf, Or.inl ⟨rfl, lw_V q1644 q1646 qs81 q122 q1647⟩⟩
theorem yd_X6_chalksOf : xYd yX6_chalksOf 1 := ⟨by decide +kernel, by decide +kernel, by decide +kernel⟩
theorem cs_X6_271_X6_chalksOf : xCV RX6 271 yX6_chalksOf cX6_chalksOf 4 (some .int) 5 62 1 := ⟨by decide, by decide, _, rfl, yd_X6_chalksOf, Or.inl ⟨rfl, lw_V q1654 q1656 qs82 q122 q1657⟩⟩
def g_X6_feelsTwo (F : Nat) (σ : MM) (a0 : Nat) (x1 : Int32) (x2 : Int32) : Option (MM) := if mT σ a0 = (5, 62) then ((gP σ a0 5 62 0).bind fun p1 => (aI σ p1 20 155).bind fun v2 => (g_X6_feels F σ a0 v2).bind fun σ3 => (gP σ3 a0 5 62 29).bind fun p4 => (sI σ3 p4 0 x1).bind fun σ5 => (gP σ5 a0 5 62 29).bind fun p6 => (sI σ5 p6 1 x2).bind fun σ7 => (gP σ7 a0 5 62 29).bind fun p8 => bq (g_X6_debtOf F σ7 a0 x1 x2) fun v10 σ9 => (sI σ9 p8 2 v10).bind fun σ11 => (gP σ11 a0 5 62 29).bind fun p12 => bq (g_X6_owesAll F σ11 a0 x1) fun v14 σ13 => (sI σ13 p12 3 v14).bind fun σ15 => (gP σ15 a0 5 62 29).bind fun p16 => bq (g_X6_wayOf F σ15 a0 x1 x2) fun v18 σ17 => (sI σ17 p16 4 v18).bind fun σ19 => (gP σ19 a0 5 62 29).bind fun p20 => bq (g_X6_chalksOf F σ19 a0 x2) fun v22 σ21 => (sI σ21 p20 5 v22).bind fun σ23 => some σ23) else none
theorem w_X6_feelsTwo {B F : Nat} {d : Nat} {σ : MM} {a0 : Nat} {x1 : Int32} {x2 : Int32} {σf : MM} (hd : 2 ≤ d) (h : g_X6_feelsTwo F σ a0 x1 x2 = some σf) : xMA B yX6_feelsTwo cX6_feelsTwo 3 none d 0 0 [rv B a0, .int x1, .int x2] σ none σf := by
  refine xMA.of (by decide +kernel) (Nat.le_of_ble_eq_true rfl) (cat_rv (cat_int (cat_int cat_nil))) (fun G C E => ?_)
  unfold g_X6_feelsTwo at h
  obtain ⟨-, h⟩ := r_ck h
  refine r_aload_n (pc := 0) (i := 0) C dX6_feelsTwo_0 rfl rfl ?_
  refine r_aload_n (pc := 1) (i := 0) C dX6_feelsTwo_1 rfl rfl ?_
  refine r_getP (pc := 2) C fd_X6_7 rfl dX6_feelsTwo_2 h (fun p1 h => ?_)
  refine r_sipush (pc := 5) (v := 155) C dX6_feelsTwo_5 (by decide) ?_
  refine r_iald (pc := 8) C dX6_feelsTwo_8 h (fun v2 h => ?_)
  refine r_callVV (pc := 9) (As := [.int v2]) (st := []) C cs_X6_265_X6_feels h (fun _ e => w_X6_feels (Nat.le_refl 0) e) (fun _ e => t_X6_feels e) (Nat.le_trans (Nat.le_of_ble_eq_true rfl) hd) (Nat.le_of_ble_eq_true rfl) dX6_feelsTwo_9 (fun σ3 h => ?_)
  refine r_aload_n (pc := 12) (i := 0) C dX6_feelsTwo_12 rfl rfl ?_
  refine r_getP (pc := 13) C fd_X6_65 rfl dX6_feelsTwo_13 h (fun p4 h => ?_)
  refine r_iconst (pc := 16) (v := 0) C dX6_feelsTwo_16 (by decide) ?_
  refine r_iload_n (pc := 17) (i := 1) C dX6_feelsTwo_17 rfl rfl ?_
  refine r_iast (pc := 18) C dX6_feelsTwo_18 h (fun σ5 h => ?_)
  refine r_aload_n (pc := 19) (i := 0) C dX6_feelsTwo_19 rfl rfl ?_
  refine r_getP (pc := 20) C fd_X6_65 rfl dX6_feelsTwo_20 h (fun p6 h => ?_)
  refine r_iconst (pc := 23) (v := 1) C dX6_feelsTwo_23 (by decide) ?_
  refine r_iload_n (pc := 24) (i := 2) C dX6_feelsTwo_24 rfl rfl ?_
  refine r_iast (pc := 25) C dX6_feelsTwo_25 h (fun σ7 h => ?_)
  refine r_aload_n (pc := 26) (i := 0) C dX6_feelsTwo_26 rfl rfl ?_
  refine r_getP (pc := 27) C fd_X6_65 rfl dX6_feelsTwo_27 h (fun p8 h => ?_)
  refine r_iconst (pc := 30) (v := 2) C dX6_feelsTwo_30 (by decide) ?_
  refine r_aload_n (pc := 31) (i := 0) C dX6_feelsTwo_31 rfl rfl ?_
  refine r_iload_n (pc := 32) (i := 1) C dX6_feelsTwo_32 rfl rfl ?_
  refine r_iload_n (pc := 33) (i := 2) C dX6_feelsTwo_33 rfl rfl ?_
  refine r_callVI (pc := 34) (As := [.int x1, .int x2]) (st := [.int 2, rv B p8]) C cs_X6_147_X6_debtOf h (fun _ _ e => w_X6_debtOf (Nat.le_refl 0) e) (fun _ _ e => t_X6_debtOf e) (Nat.le_trans (Nat.le_of_ble_eq_true rfl) hd) (Nat.le_of_ble_eq_true rfl) dX6_feelsTwo_34 (fun v10 σ9 h => ?_)
  refine r_iast (pc := 37) C dX6_feelsTwo_37 h (fun σ11 h => ?_)
  refine r_aload_n (pc := 38) (i := 0) C dX6_feelsTwo_38 rfl rfl ?_
  refine r_getP (pc := 39) C fd_X6_65 rfl dX6_feelsTwo_39 h (fun p12 h => ?_)
  refine r_iconst (pc := 42) (v := 3) C dX6_feelsTwo_42 (by decide) ?_
  refine r_aload_n (pc := 43) (i := 0) C dX6_feelsTwo_43 rfl rfl ?_
  refine r_iload_n (pc := 44) (i := 1) C dX6_feelsTwo_44 rfl rfl ?_
  refine r_callVI (pc := 45) (As := [.int x1]) (st := [.int 3, rv B p12]) C cs_X6_150_X6_owesAll h (fun _ _ e => w_X6_owesAll (Nat.le_refl 1) e) (fun _ _ e => t_X6_owesAll e) (Nat.le_trans (Nat.le_of_ble_eq_true rfl) hd) (Nat.le_of_ble_eq_true rfl) dX6_feelsTwo_45 (fun v14 σ13 h => ?_)
  refine r_iast (pc := 48) C dX6_feelsTwo_48 h (fun σ15 h => ?_)
  refine r_aload_n (pc := 49) (i := 0) C dX6_feelsTwo_49 rfl rfl ?_
  refine r_getP (pc := 50) C fd_X6_65 rfl dX6_feelsTwo_50 h (fun p16 h => ?_)
  refine r_iconst (pc := 53) (v := 4) C dX6_feelsTwo_53 (by decide) ?_
  refine r_aload_n (pc := 54) (i := 0) C dX6_feelsTwo_54 rfl rfl ?_
  refine r_iload_n (pc := 55) (i := 1) C dX6_feelsTwo_55 rfl rfl ?_
  refine r_iload_n (pc := 56) (i := 2) C dX6_feelsTwo_56 rfl rfl ?_
  refine r_callVI (pc := 57) (As := [.int x1, .int x2]) (st := [.int 4, rv B p16]) C cs_X6_268_X6_wayOf h (fun _ _ e => w_X6_wayOf (Nat.le_refl 1) e) (fun _ _ e => t_X6_wayOf e) (Nat.le_trans (Nat.le_of_ble_eq_true rfl) hd) (Nat.le_of_ble_eq_true rfl) dX6_feelsTwo_57 (fun v18 σ17 h => ?_)
  refine r_iast (pc := 60) C dX6_feelsTwo_60 h (fun σ19 h => ?_)
  refine r_aload_n (pc := 61) (i := 0) C dX6_feelsTwo_61 rfl rfl ?_
  refine r_getP (pc := 62) C fd_X6_65 rfl dX6_feelsTwo_62 h (fun p20 h => ?_)
  refine r_iconst (pc := 65) (v := 5) C dX6_feelsTwo_65 (by decide) ?_
  refine r_aload_n (pc := 66) (i := 0) C dX6_feelsTwo_66 rfl rfl ?_
  refine r_iload_n (pc := 67) (i := 2) C dX6_feelsTwo_67 rfl rfl ?_
  refine r_callVI (pc := 68) (As := [.int x2]) (st := [.int 5, rv B p20]) C cs_X6_271_X6_chalksOf h (fun _ _ e => w_X6_chalksOf (Nat.le_refl 0) e) (fun _ _ e => t_X6_chalksOf e) (Nat.le_trans (Nat.le_of_ble_eq_true rfl) hd) (Nat.le_of_ble_eq_true rfl) dX6_feelsTwo_68 (fun v22 σ21 h => ?_)
  refine r_iast (pc := 71) C dX6_feelsTwo_71 h (fun σ23 h => ?_)
  exact r_vret (pc := 72) C rfl dX6_feelsTwo_72 h E
theorem t_X6_feelsTwo {F : Nat} {σ : MM} {a0 : Nat} {x1 : Int32} {x2 : Int32} {r : MM} (h : g_X6_feelsTwo F σ a0 x1 x2 = some r) : mT σ a0 = (5, 62) := by
  unfold g_X6_feelsTwo at h
  exact (r_ck h).1
theorem yd_X6_rainBy : xYd yX6_rainBy 0 := ⟨by decide +kernel, by decide +kernel, by decide +kernel⟩
theorem cs_X6_303_X6_rainBy : xCV RX6 303 yX6_rainBy cX6_rainBy 1 (some .int) 5 62 0 := ⟨by decide, by decide, _, rfl, yd_X6_rainBy, Or.inl ⟨rfl, lw_V q1621 q1623 qs76 q122 q1624⟩⟩
theorem yd_X6_feelsTwo : xYd yX6_feelsTwo 2 := ⟨by decide +kernel, by decide +kernel, by decide +kernel⟩
theorem cs_X6_274_X6_feelsTwo : xCV RX6 274 yX6_feelsTwo cX6_feelsTwo 3 none 5 62 2 := ⟨by decide, by decide, _, rfl, yd_X6_feelsTwo, Or.inl ⟨rfl, lw_V q1640 q1642 qs80 q122 q1643⟩⟩
def l_X6_dayBegins_86 (K : MM → Option (MM)) (F : Nat) (a0 : Nat) (x1 : Int32) : Nat → Int32 → MM → Option (MM)
  | 0, _, _ => none
  | f + 1, z2, σ => if z2 < 10 then (bq (g_X6_debtOf F σ a0 x1 z2) fun v21 σ20 => if v21 = 0 then (l_X6_dayBegins_86 K F a0 x1 f ((z2 + 1)) σ20) else ((g_X6_feelsTwo F σ20 a0 x1 z2).bind fun σ22 => bq (g_X6_debtOf F σ22 a0 x1 z2) fun v24 σ23 => bq (g_X6_byLaw F σ23 a0 105 9) fun v26 σ25 => bq (g_X6_min F σ25 99 ((v24 + v26))) fun v28 σ27 => (gI σ27 a0 5 62 34).bind fun v29 => bq (g_X6_debtOf F σ27 a0 x1 z2) fun v31 σ30 => (pI σ30 a0 5 62 34 (((v29 + v28) - v31))).bind fun σ32 => (gP σ32 a0 5 62 0).bind fun p33 => (sI σ32 p33 (((0 + (10 * x1)) + z2)) v28).bind fun σ34 => l_X6_dayBegins_86 K F a0 x1 f ((z2 + 1)) σ34)) else (K σ)
def l_X6_dayBegins_78 (K : MM → Option (MM)) (F : Nat) (a0 : Nat) : Nat → Int32 → MM → Option (MM)
  | 0, _, _ => none
  | f + 1, z1, σ => if z1 < 10 then (l_X6_dayBegins_86 (fun (σ35 : MM) => l_X6_dayBegins_78 K F a0 f ((z1 + 1)) σ35) F a0 z1 F 0 σ) else (K σ)
def g_X6_dayBegins (F : Nat) (σ : MM) (a0 : Nat) : Option (MM) := if mT σ a0 = (5, 62) then ((gP σ a0 5 62 0).bind fun p1 => (gP σ a0 5 62 0).bind fun p2 => (aI σ p2 20 158).bind fun v3 => (rm_ (((25173 * v3) + 13849)) 65536).bind fun v4 => (sI σ p1 158 v4).bind fun σ5 => (gP σ5 a0 5 62 0).bind fun p6 => (gP σ5 a0 5 62 0).bind fun p7 => (aI σ5 p7 20 158).bind fun v8 => (rm_ v8 10).bind fun v9 => bq (g_X6_rainBy F σ5 a0) fun v11 σ10 => jn (fun (w13 : Int32) (σ12 : MM) => (sI σ12 p6 157 w13).bind fun σ15 => (gI σ15 a0 5 62 33).bind fun v16 => (gP σ15 a0 5 62 0).bind fun p17 => (aI σ15 p17 20 157).bind fun v18 => (pI σ15 a0 5 62 33 ((v16 + v18))).bind fun σ19 => l_X6_dayBegins_78 (fun (σ36 : MM) => some σ36) F a0 F 0 σ19) (fun k14 => if v9 < v11 then (k14 1 σ10) else (k14 0 σ10))) else none
theorem wl_X6_dayBegins_86 {B : Nat} {G : XG} {d : Nat} {σf : MM} (hd : 4 ≤ d) (C : xC B G yX6_dayBegins cX6_dayBegins 4 none d 0 0) (E : xEnd B G none σf 0 0) {K : MM → Option (MM)} {F : Nat} {a0 : Nat} {x1 : Int32} (hK : ∀ (σ : MM), K σ = some σf → xV B G 0 0 σ 168 [(0, rv B a0), (1, .int x1)] []) : ∀ (f : Nat) (z2 : Int32) (σ : MM), l_X6_dayBegins_86 K F a0 x1 f z2 σ = some σf → xV B G 0 0 σ 86 [(0, rv B a0), (1, .int x1), (2, .int z2)] [] := by
  intro f
  induction f with
  | zero =>
    intro z2 σ h
    have h : none = some σf := h
    cases h
  | succ f ih =>
    intro z2 σ h
    rw [l_X6_dayBegins_86.eq_2] at h
    refine r_iload_n (pc := 86) (i := 2) C dX6_dayBegins_86 rfl rfl ?_
    refine r_bipush (pc := 87) (v := 10) C dX6_dayBegins_87 (by decide) ?_
    refine r_icmpge (pc := 89) (tgt := 168) C dX6_dayBegins_89 (by decide) h (fun h => ?_) (fun h => ?_)
    · refine r_pick (lv' := [(0, rv B a0), (1, .int x1)]) [0, 1] rfl ?_
      exact hK _ h
    · refine r_aload_n (pc := 92) (i := 0) C dX6_dayBegins_92 rfl rfl ?_
      refine r_iload_n (pc := 93) (i := 1) C dX6_dayBegins_93 rfl rfl ?_
      refine r_iload_n (pc := 94) (i := 2) C dX6_dayBegins_94 rfl rfl ?_
      refine r_callVI (pc := 95) (As := [.int x1, .int z2]) (st := []) C cs_X6_147_X6_debtOf h (fun _ _ e => w_X6_debtOf (Nat.le_refl 0) e) (fun _ _ e => t_X6_debtOf e) (Nat.le_trans (Nat.le_of_ble_eq_true rfl) hd) (Nat.le_of_ble_eq_true rfl) dX6_dayBegins_95 (fun v21 σ20 h => ?_)
      refine r_ifne (pc := 98) (tgt := 104) C dX6_dayBegins_98 (by decide) h (fun h => ?_) (fun h => ?_)
      · refine r_aload_n (pc := 104) (i := 0) C dX6_dayBegins_104 rfl rfl ?_
        refine r_iload_n (pc := 105) (i := 1) C dX6_dayBegins_105 rfl rfl ?_
        refine r_iload_n (pc := 106) (i := 2) C dX6_dayBegins_106 rfl rfl ?_
        refine r_callVV (pc := 107) (As := [.int x1, .int z2]) (st := []) C cs_X6_274_X6_feelsTwo h (fun _ e => w_X6_feelsTwo (Nat.le_refl 2) e) (fun _ e => t_X6_feelsTwo e) (Nat.le_trans (Nat.le_of_ble_eq_true rfl) hd) (Nat.le_of_ble_eq_true rfl) dX6_dayBegins_107 (fun σ22 h => ?_)
        refine r_bipush (pc := 110) (v := 99) C dX6_dayBegins_110 (by decide) ?_
        refine r_aload_n (pc := 112) (i := 0) C dX6_dayBegins_112 rfl rfl ?_
        refine r_iload_n (pc := 113) (i := 1) C dX6_dayBegins_113 rfl rfl ?_
        refine r_iload_n (pc := 114) (i := 2) C dX6_dayBegins_114 rfl rfl ?_
        refine r_callVI (pc := 115) (As := [.int x1, .int z2]) (st := [.int 99]) C cs_X6_147_X6_debtOf h (fun _ _ e => w_X6_debtOf (Nat.le_refl 0) e) (fun _ _ e => t_X6_debtOf e) (Nat.le_trans (Nat.le_of_ble_eq_true rfl) hd) (Nat.le_of_ble_eq_true rfl) dX6_dayBegins_115 (fun v24 σ23 h => ?_)
        refine r_aload_n (pc := 118) (i := 0) C dX6_dayBegins_118 rfl rfl ?_
        refine r_bipush (pc := 119) (v := 105) C dX6_dayBegins_119 (by decide) ?_
        refine r_bipush (pc := 121) (v := 9) C dX6_dayBegins_121 (by decide) ?_
        refine r_callVI (pc := 123) (As := [.int 105, .int 9]) (st := [.int v24, .int 99]) C cs_X6_280_X6_byLaw h (fun _ _ e => w_X6_byLaw (Nat.le_refl 2) e) (fun _ _ e => t_X6_byLaw e) (Nat.le_trans (Nat.le_of_ble_eq_true rfl) hd) (Nat.le_of_ble_eq_true rfl) dX6_dayBegins_123 (fun v26 σ25 h => ?_)
        refine r_iadd (pc := 126) C dX6_dayBegins_126 ?_
        refine r_callSI (pc := 127) (As := [.int 99, .int (v24 + v26)]) (st := []) C cs_X6_290_X6_min h (fun _ _ e => w_X6_min (Nat.le_refl 0) e) (Nat.le_trans (Nat.le_of_ble_eq_true rfl) hd) (Nat.le_of_ble_eq_true rfl) dX6_dayBegins_127 (fun v28 σ27 h => ?_)
        refine r_istore_n (pc := 130) (i := 3) C dX6_dayBegins_130 rfl (by decide) ?_
        refine r_aload_n (pc := 131) (i := 0) C dX6_dayBegins_131 rfl rfl ?_
        refine r_aload_n (pc := 132) (i := 0) C dX6_dayBegins_132 rfl rfl ?_
        refine r_getI (pc := 133) C fd_X6_309 rfl dX6_dayBegins_133 h (fun v29 h => ?_)
        refine r_iload_n (pc := 136) (i := 3) C dX6_dayBegins_136 rfl rfl ?_
        refine r_iadd (pc := 137) C dX6_dayBegins_137 ?_
        refine r_aload_n (pc := 138) (i := 0) C dX6_dayBegins_138 rfl rfl ?_
        refine r_iload_n (pc := 139) (i := 1) C dX6_dayBegins_139 rfl rfl ?_
        refine r_iload_n (pc := 140) (i := 2) C dX6_dayBegins_140 rfl rfl ?_
        refine r_callVI (pc := 141) (As := [.int x1, .int z2]) (st := [.int (v29 + v28), rv B a0]) C cs_X6_147_X6_debtOf h (fun _ _ e => w_X6_debtOf (Nat.le_refl 0) e) (fun _ _ e => t_X6_debtOf e) (Nat.le_trans (Nat.le_of_ble_eq_true rfl) hd) (Nat.le_of_ble_eq_true rfl) dX6_dayBegins_141 (fun v31 σ30 h => ?_)
        refine r_isub (pc := 144) C dX6_dayBegins_144 ?_
        refine r_putI (pc := 145) C fd_X6_309 ft_X6_34 dX6_dayBegins_145 h (fun σ32 h => ?_)
        refine r_aload_n (pc := 148) (i := 0) C dX6_dayBegins_148 rfl rfl ?_
        refine r_getP (pc := 149) C fd_X6_7 rfl dX6_dayBegins_149 h (fun p33 h => ?_)
        refine r_iconst (pc := 152) (v := 0) C dX6_dayBegins_152 (by decide) ?_
        refine r_bipush (pc := 153) (v := 10) C dX6_dayBegins_153 (by decide) ?_
        refine r_iload_n (pc := 155) (i := 1) C dX6_dayBegins_155 rfl rfl ?_
        refine r_imul (pc := 156) C dX6_dayBegins_156 ?_
        refine r_iadd (pc := 157) C dX6_dayBegins_157 ?_
        refine r_iload_n (pc := 158) (i := 2) C dX6_dayBegins_158 rfl rfl ?_
        refine r_iadd (pc := 159) C dX6_dayBegins_159 ?_
        refine r_iload_n (pc := 160) (i := 3) C dX6_dayBegins_160 rfl rfl ?_
        refine r_iast (pc := 161) C dX6_dayBegins_161 h (fun σ34 h => ?_)
        refine r_iinc (pc := 162) (i := 2) (v := (z2 + 1)) C dX6_dayBegins_162 rfl rfl (by decide) ?_
        refine r_goto (pc := 165) (tgt := 86) C dX6_dayBegins_165 (by decide) ?_
        refine r_pick (lv' := [(0, rv B a0), (1, .int x1), (2, .int (z2 + 1))]) [0, 1, 2] rfl ?_
        exact ih _ _ h
      · refine r_goto (pc := 101) (tgt := 162) C dX6_dayBegins_101 (by decide) ?_
        refine r_iinc (pc := 162) (i := 2) (v := (z2 + 1)) C dX6_dayBegins_162 rfl rfl (by decide) ?_
        refine r_goto (pc := 165) (tgt := 86) C dX6_dayBegins_165 (by decide) ?_
        refine r_pick (lv' := [(0, rv B a0), (1, .int x1), (2, .int (z2 + 1))]) [0, 1, 2] rfl ?_
        exact ih _ _ h
theorem wl_X6_dayBegins_78 {B : Nat} {G : XG} {d : Nat} {σf : MM} (hd : 4 ≤ d) (C : xC B G yX6_dayBegins cX6_dayBegins 4 none d 0 0) (E : xEnd B G none σf 0 0) {K : MM → Option (MM)} {F : Nat} {a0 : Nat} (hK : ∀ (σ : MM), K σ = some σf → xV B G 0 0 σ 174 [] []) : ∀ (f : Nat) (z1 : Int32) (σ : MM), l_X6_dayBegins_78 K F a0 f z1 σ = some σf → xV B G 0 0 σ 78 [(0, rv B a0), (1, .int z1)] [] := by
  intro f
  induction f with
  | zero =>
    intro z1 σ h
    have h : none = some σf := h
    cases h
  | succ f ih =>
    intro z1 σ h
    rw [l_X6_dayBegins_78.eq_2] at h
    refine r_iload_n (pc := 78) (i := 1) C dX6_dayBegins_78 rfl rfl ?_
    refine r_bipush (pc := 79) (v := 10) C dX6_dayBegins_79 (by decide) ?_
    refine r_icmpge (pc := 81) (tgt := 174) C dX6_dayBegins_81 (by decide) h (fun h => ?_) (fun h => ?_)
    · refine r_pick (lv' := []) [] rfl ?_
      exact hK _ h
    · refine r_iconst (pc := 84) (v := 0) C dX6_dayBegins_84 (by decide) ?_
      refine r_istore_n (pc := 85) (i := 2) C dX6_dayBegins_85 rfl (by decide) ?_
      refine r_pick (lv' := [(0, rv B a0), (1, .int z1), (2, .int 0)]) [0, 1, 2] rfl ?_
      refine wl_X6_dayBegins_86 hd C E (fun  σ35 h => ?_) _ _ _ h
      refine r_iinc (pc := 168) (i := 1) (v := (z1 + 1)) C dX6_dayBegins_168 rfl rfl (by decide) ?_
      refine r_goto (pc := 171) (tgt := 78) C dX6_dayBegins_171 (by decide) ?_
      refine r_pick (lv' := [(0, rv B a0), (1, .int (z1 + 1))]) [0, 1] rfl ?_
      exact ih _ _ h
theorem w_X6_dayBegins {B F : Nat} {d : Nat} {σ : MM} {a0 : Nat} {σf : MM} (hd : 4 ≤ d) (h : g_X6_dayBegins F σ a0 = some σf) : xMA B yX6_dayBegins cX6_dayBegins 4 none d 0 0 [rv B a0] σ none σf := by
  refine xMA.of (by decide +kernel) (Nat.le_of_ble_eq_true rfl) (cat_rv cat_nil) (fun G C E => ?_)
  unfold g_X6_dayBegins at h
  obtain ⟨-, h⟩ := r_ck h
  refine r_aload_n (pc := 0) (i := 0) C dX6_dayBegins_0 rfl rfl ?_
  refine r_getP (pc := 1) C fd_X6_7 rfl dX6_dayBegins_1 h (fun p1 h => ?_)
  refine r_sipush (pc := 4) (v := 158) C dX6_dayBegins_4 (by decide) ?_
  refine r_sipush (pc := 7) (v := 25173) C dX6_dayBegins_7 (by decide) ?_
  refine r_aload_n (pc := 10) (i := 0) C dX6_dayBegins_10 rfl rfl ?_
  refine r_getP (pc := 11) C fd_X6_7 rfl dX6_dayBegins_11 h (fun p2 h => ?_)
  refine r_sipush (pc := 14) (v := 158) C dX6_dayBegins_14 (by decide) ?_
  refine r_iald (pc := 17) C dX6_dayBegins_17 h (fun v3 h => ?_)
  refine r_imul (pc := 18) C dX6_dayBegins_18 ?_
  refine r_sipush (pc := 19) (v := 13849) C dX6_dayBegins_19 (by decide) ?_
  refine r_iadd (pc := 22) C dX6_dayBegins_22 ?_
  refine r_ldc_w (pc := 23) C q1620 dX6_dayBegins_23 ?_
  refine r_irem (pc := 26) C dX6_dayBegins_26 h (fun v4 h => ?_)
  refine r_iast (pc := 27) C dX6_dayBegins_27 h (fun σ5 h => ?_)
  refine r_aload_n (pc := 28) (i := 0) C dX6_dayBegins_28 rfl rfl ?_
  refine r_getP (pc := 29) C fd_X6_7 rfl dX6_dayBegins_29 h (fun p6 h => ?_)
  refine r_sipush (pc := 32) (v := 157) C dX6_dayBegins_32 (by decide) ?_
  refine r_aload_n (pc := 35) (i := 0) C dX6_dayBegins_35 rfl rfl ?_
  refine r_getP (pc := 36) C fd_X6_7 rfl dX6_dayBegins_36 h (fun p7 h => ?_)
  refine r_sipush (pc := 39) (v := 158) C dX6_dayBegins_39 (by decide) ?_
  refine r_iald (pc := 42) C dX6_dayBegins_42 h (fun v8 h => ?_)
  refine r_bipush (pc := 43) (v := 10) C dX6_dayBegins_43 (by decide) ?_
  refine r_irem (pc := 45) C dX6_dayBegins_45 h (fun v9 h => ?_)
  refine r_aload_n (pc := 46) (i := 0) C dX6_dayBegins_46 rfl rfl ?_
  refine r_callVI (pc := 47) (As := []) (st := [.int v9, .int 157, rv B p6]) C cs_X6_303_X6_rainBy h (fun _ _ e => w_X6_rainBy (Nat.le_refl 3) e) (fun _ _ e => t_X6_rainBy e) (Nat.le_trans (Nat.le_of_ble_eq_true rfl) hd) (Nat.le_of_ble_eq_true rfl) dX6_dayBegins_47 (fun v11 σ10 h => ?_)
  refine r_jn (fun k9 => ∀ (w13 : Int32) (σ12 : MM), k9 w13 σ12 = some σf → xV B G 0 0 σ12 58 [(0, rv B a0)] [.int w13, .int 157, rv B p6]) h (fun w13 σ12 h => ?_) (fun k14 hk14 h => ?_)
  · refine r_iast (pc := 58) C dX6_dayBegins_58 h (fun σ15 h => ?_)
    refine r_aload_n (pc := 59) (i := 0) C dX6_dayBegins_59 rfl rfl ?_
    refine r_aload_n (pc := 60) (i := 0) C dX6_dayBegins_60 rfl rfl ?_
    refine r_getI (pc := 61) C fd_X6_306 rfl dX6_dayBegins_61 h (fun v16 h => ?_)
    refine r_aload_n (pc := 64) (i := 0) C dX6_dayBegins_64 rfl rfl ?_
    refine r_getP (pc := 65) C fd_X6_7 rfl dX6_dayBegins_65 h (fun p17 h => ?_)
    refine r_sipush (pc := 68) (v := 157) C dX6_dayBegins_68 (by decide) ?_
    refine r_iald (pc := 71) C dX6_dayBegins_71 h (fun v18 h => ?_)
    refine r_iadd (pc := 72) C dX6_dayBegins_72 ?_
    refine r_putI (pc := 73) C fd_X6_306 ft_X6_33 dX6_dayBegins_73 h (fun σ19 h => ?_)
    refine r_iconst (pc := 76) (v := 0) C dX6_dayBegins_76 (by decide) ?_
    refine r_istore_n (pc := 77) (i := 1) C dX6_dayBegins_77 rfl (by decide) ?_
    refine r_pick (lv' := [(0, rv B a0), (1, .int 0)]) [0, 1] rfl ?_
    refine wl_X6_dayBegins_78 hd C E (fun  σ36 h => ?_) _ _ _ h
    exact r_vret (pc := 174) C rfl dX6_dayBegins_174 h E
  · refine r_icmpge (pc := 50) (tgt := 57) C dX6_dayBegins_50 (by decide) h (fun h => ?_) (fun h => ?_)
    · refine r_iconst (pc := 57) (v := 0) C dX6_dayBegins_57 (by decide) ?_
      refine r_pick (lv' := [(0, rv B a0)]) [0] rfl ?_
      exact hk14 _ _ h
    · refine r_iconst (pc := 53) (v := 1) C dX6_dayBegins_53 (by decide) ?_
      refine r_goto (pc := 54) (tgt := 58) C dX6_dayBegins_54 (by decide) ?_
      refine r_pick (lv' := [(0, rv B a0)]) [0] rfl ?_
      exact hk14 _ _ h
theorem t_X6_dayBegins {F : Nat} {σ : MM} {a0 : Nat} {r : MM} (h : g_X6_dayBegins F σ a0 = some r) : mT σ a0 = (5, 62) := by
  unfold g_X6_dayBegins at h
  exact (r_ck h).1
def l_X6_chalks_15 (K : MM → Option (MM)) (F : Nat) (a0 : Nat) (x1 : Int32) : Nat → Int32 → MM → Option (MM)
  | 0, _, _ => none
  | f + 1, z2, σ => if z2 < 40 then ((gP σ a0 5 62 0).bind fun p13 => (gP σ a0 5 62 0).bind fun p14 => (aI σ p14 20 ((110 + z2))).bind fun v15 => (sI σ p13 (((110 + z2) - 1)) v15).bind fun σ16 => l_X6_chalks_15 K F a0 x1 f ((z2 + 1)) σ16) else (K σ)
def g_X6_chalks (F : Nat) (σ : MM) (a0 : Nat) (x1 : Int32) : Option (MM) := if mT σ a0 = (5, 62) then ((gP σ a0 5 62 0).bind fun p1 => (aI σ p1 20 150).bind fun v2 => jn (fun (σ3 : MM) => (gP σ3 a0 5 62 0).bind fun p5 => (gP σ3 a0 5 62 0).bind fun p6 => (aI σ3 p6 20 150).bind fun v7 => (sI σ3 p5 ((110 + v7)) x1).bind fun σ8 => (gP σ8 a0 5 62 0).bind fun p9 => (gP σ8 a0 5 62 0).bind fun p10 => (aI σ8 p10 20 150).bind fun v11 => (sI σ8 p9 150 ((v11 + 1))).bind fun σ12 => some σ12) (fun k4 => if v2 = 40 then (l_X6_chalks_15 (fun (σ17 : MM) => (gP σ17 a0 5 62 0).bind fun p18 => (sI σ17 p18 150 39).bind fun σ19 => k4 σ19) F a0 x1 F 1 σ) else (k4 σ))) else none
theorem wl_X6_chalks_15 {B : Nat} {G : XG} {d : Nat} {σf : MM} (hd : 0 ≤ d) (C : xC B G yX6_chalks cX6_chalks 3 none d 0 0) (E : xEnd B G none σf 0 0) {K : MM → Option (MM)} {F : Nat} {a0 : Nat} {x1 : Int32} (hK : ∀ (σ : MM), K σ = some σf → xV B G 0 0 σ 47 [(0, rv B a0), (1, .int x1)] []) : ∀ (f : Nat) (z2 : Int32) (σ : MM), l_X6_chalks_15 K F a0 x1 f z2 σ = some σf → xV B G 0 0 σ 15 [(0, rv B a0), (1, .int x1), (2, .int z2)] [] := by
  intro f
  induction f with
  | zero =>
    intro z2 σ h
    have h : none = some σf := h
    cases h
  | succ f ih =>
    intro z2 σ h
    rw [l_X6_chalks_15.eq_2] at h
    refine r_iload_n (pc := 15) (i := 2) C dX6_chalks_15 rfl rfl ?_
    refine r_bipush (pc := 16) (v := 40) C dX6_chalks_16 (by decide) ?_
    refine r_icmpge (pc := 18) (tgt := 47) C dX6_chalks_18 (by decide) h (fun h => ?_) (fun h => ?_)
    · refine r_pick (lv' := [(0, rv B a0), (1, .int x1)]) [0, 1] rfl ?_
      exact hK _ h
    · refine r_aload_n (pc := 21) (i := 0) C dX6_chalks_21 rfl rfl ?_
      refine r_getP (pc := 22) C fd_X6_7 rfl dX6_chalks_22 h (fun p13 h => ?_)
      refine r_bipush (pc := 25) (v := 110) C dX6_chalks_25 (by decide) ?_
      refine r_iload_n (pc := 27) (i := 2) C dX6_chalks_27 rfl rfl ?_
      refine r_iadd (pc := 28) C dX6_chalks_28 ?_
      refine r_iconst (pc := 29) (v := 1) C dX6_chalks_29 (by decide) ?_
      refine r_isub (pc := 30) C dX6_chalks_30 ?_
      refine r_aload_n (pc := 31) (i := 0) C dX6_chalks_31 rfl rfl ?_
      refine r_getP (pc := 32) C fd_X6_7 rfl dX6_chalks_32 h (fun p14 h => ?_)
      refine r_bipush (pc := 35) (v := 110) C dX6_chalks_35 (by decide) ?_
      refine r_iload_n (pc := 37) (i := 2) C dX6_chalks_37 rfl rfl ?_
      refine r_iadd (pc := 38) C dX6_chalks_38 ?_
      refine r_iald (pc := 39) C dX6_chalks_39 h (fun v15 h => ?_)
      refine r_iast (pc := 40) C dX6_chalks_40 h (fun σ16 h => ?_)
      refine r_iinc (pc := 41) (i := 2) (v := (z2 + 1)) C dX6_chalks_41 rfl rfl (by decide) ?_
      refine r_goto (pc := 44) (tgt := 15) C dX6_chalks_44 (by decide) ?_
      refine r_pick (lv' := [(0, rv B a0), (1, .int x1), (2, .int (z2 + 1))]) [0, 1, 2] rfl ?_
      exact ih _ _ h
theorem w_X6_chalks {B F : Nat} {d : Nat} {σ : MM} {a0 : Nat} {x1 : Int32} {σf : MM} (hd : 0 ≤ d) (h : g_X6_chalks F σ a0 x1 = some σf) : xMA B yX6_chalks cX6_chalks 3 none d 0 0 [rv B a0, .int x1] σ none σf := by
  refine xMA.of (by decide +kernel) (Nat.le_of_ble_eq_true rfl) (cat_rv (cat_int cat_nil)) (fun G C E => ?_)
  unfold g_X6_chalks at h
  obtain ⟨-, h⟩ := r_ck h
  refine r_aload_n (pc := 0) (i := 0) C dX6_chalks_0 rfl rfl ?_
  refine r_getP (pc := 1) C fd_X6_7 rfl dX6_chalks_1 h (fun p1 h => ?_)
  refine r_sipush (pc := 4) (v := 150) C dX6_chalks_4 (by decide) ?_
  refine r_iald (pc := 7) C dX6_chalks_7 h (fun v2 h => ?_)
  refine r_bipush (pc := 8) (v := 40) C dX6_chalks_8 (by decide) ?_
  refine r_jn (fun k9 => ∀  (σ3 : MM), k9 σ3 = some σf → xV B G 0 0 σ3 57 [(0, rv B a0), (1, .int x1)] []) h (fun  σ3 h => ?_) (fun k4 hk4 h => ?_)
  · refine r_aload_n (pc := 57) (i := 0) C dX6_chalks_57 rfl rfl ?_
    refine r_getP (pc := 58) C fd_X6_7 rfl dX6_chalks_58 h (fun p5 h => ?_)
    refine r_bipush (pc := 61) (v := 110) C dX6_chalks_61 (by decide) ?_
    refine r_aload_n (pc := 63) (i := 0) C dX6_chalks_63 rfl rfl ?_
    refine r_getP (pc := 64) C fd_X6_7 rfl dX6_chalks_64 h (fun p6 h => ?_)
    refine r_sipush (pc := 67) (v := 150) C dX6_chalks_67 (by decide) ?_
    refine r_iald (pc := 70) C dX6_chalks_70 h (fun v7 h => ?_)
    refine r_iadd (pc := 71) C dX6_chalks_71 ?_
    refine r_iload_n (pc := 72) (i := 1) C dX6_chalks_72 rfl rfl ?_
    refine r_iast (pc := 73) C dX6_chalks_73 h (fun σ8 h => ?_)
    refine r_aload_n (pc := 74) (i := 0) C dX6_chalks_74 rfl rfl ?_
    refine r_getP (pc := 75) C fd_X6_7 rfl dX6_chalks_75 h (fun p9 h => ?_)
    refine r_sipush (pc := 78) (v := 150) C dX6_chalks_78 (by decide) ?_
    refine r_aload_n (pc := 81) (i := 0) C dX6_chalks_81 rfl rfl ?_
    refine r_getP (pc := 82) C fd_X6_7 rfl dX6_chalks_82 h (fun p10 h => ?_)
    refine r_sipush (pc := 85) (v := 150) C dX6_chalks_85 (by decide) ?_
    refine r_iald (pc := 88) C dX6_chalks_88 h (fun v11 h => ?_)
    refine r_iconst (pc := 89) (v := 1) C dX6_chalks_89 (by decide) ?_
    refine r_iadd (pc := 90) C dX6_chalks_90 ?_
    refine r_iast (pc := 91) C dX6_chalks_91 h (fun σ12 h => ?_)
    exact r_vret (pc := 92) C rfl dX6_chalks_92 h E
  · refine r_icmpne (pc := 10) (tgt := 57) C dX6_chalks_10 (by decide) h (fun h => ?_) (fun h => ?_)
    · refine r_pick (lv' := [(0, rv B a0), (1, .int x1)]) [0, 1] rfl ?_
      exact hk4 _ h
    · refine r_iconst (pc := 13) (v := 1) C dX6_chalks_13 (by decide) ?_
      refine r_istore_n (pc := 14) (i := 2) C dX6_chalks_14 rfl (by decide) ?_
      refine r_pick (lv' := [(0, rv B a0), (1, .int x1), (2, .int 1)]) [0, 1, 2] rfl ?_
      refine wl_X6_chalks_15 hd C E (fun  σ17 h => ?_) _ _ _ h
      refine r_aload_n (pc := 47) (i := 0) C dX6_chalks_47 rfl rfl ?_
      refine r_getP (pc := 48) C fd_X6_7 rfl dX6_chalks_48 h (fun p18 h => ?_)
      refine r_sipush (pc := 51) (v := 150) C dX6_chalks_51 (by decide) ?_
      refine r_bipush (pc := 54) (v := 39) C dX6_chalks_54 (by decide) ?_
      refine r_iast (pc := 56) C dX6_chalks_56 h (fun σ19 h => ?_)
      refine r_pick (lv' := [(0, rv B a0), (1, .int x1)]) [0, 1] rfl ?_
      exact hk4 _ h
theorem t_X6_chalks {F : Nat} {σ : MM} {a0 : Nat} {x1 : Int32} {r : MM} (h : g_X6_chalks F σ a0 x1 = some r) : mT σ a0 = (5, 62) := by
  unfold g_X6_chalks at h
  exact (r_ck h).1
theorem yd_X6_chalks : xYd yX6_chalks 1 := ⟨by decide +kernel, by decide +kernel, by decide +kernel⟩
theorem cs_X6_299_X6_chalks : xCV RX6 299 yX6_chalks cX6_chalks 3 none 5 62 1 := ⟨by decide, by decide, _, rfl, yd_X6_chalks, Or.inl ⟨rfl, lw_V q1662 q1664 qs84 q122 q1665⟩⟩
def g_X6_pays (F : Nat) (σ : MM) (a0 : Nat) (x1 : Int32) (x2 : Int32) : Option (MM) := if mT σ a0 = (5, 62) then ((gP σ a0 5 62 0).bind fun p1 => bq (g_X6_debtOf F σ a0 x1 x2) fun v3 σ2 => bq (g_X6_max F σ2 0 ((v3 - 1))) fun v5 σ4 => (sI σ4 p1 (((0 + (10 * x1)) + x2)) v5).bind fun σ6 => (g_X6_rests F σ6 a0 x2).bind fun σ7 => (g_X6_chalks F σ7 a0 x2).bind fun σ8 => some σ8) else none
theorem w_X6_pays {B F : Nat} {d : Nat} {σ : MM} {a0 : Nat} {x1 : Int32} {x2 : Int32} {σf : MM} (hd : 1 ≤ d) (h : g_X6_pays F σ a0 x1 x2 = some σf) : xMA B yX6_pays cX6_pays 3 none d 0 0 [rv B a0, .int x1, .int x2] σ none σf := by
  refine xMA.of (by decide +kernel) (Nat.le_of_ble_eq_true rfl) (cat_rv (cat_int (cat_int cat_nil))) (fun G C E => ?_)
  unfold g_X6_pays at h
  obtain ⟨-, h⟩ := r_ck h
  refine r_aload_n (pc := 0) (i := 0) C dX6_pays_0 rfl rfl ?_
  refine r_getP (pc := 1) C fd_X6_7 rfl dX6_pays_1 h (fun p1 h => ?_)
  refine r_iconst (pc := 4) (v := 0) C dX6_pays_4 (by decide) ?_
  refine r_bipush (pc := 5) (v := 10) C dX6_pays_5 (by decide) ?_
  refine r_iload_n (pc := 7) (i := 1) C dX6_pays_7 rfl rfl ?_
  refine r_imul (pc := 8) C dX6_pays_8 ?_
  refine r_iadd (pc := 9) C dX6_pays_9 ?_
  refine r_iload_n (pc := 10) (i := 2) C dX6_pays_10 rfl rfl ?_
  refine r_iadd (pc := 11) C dX6_pays_11 ?_
  refine r_iconst (pc := 12) (v := 0) C dX6_pays_12 (by decide) ?_
  refine r_aload_n (pc := 13) (i := 0) C dX6_pays_13 rfl rfl ?_
  refine r_iload_n (pc := 14) (i := 1) C dX6_pays_14 rfl rfl ?_
  refine r_iload_n (pc := 15) (i := 2) C dX6_pays_15 rfl rfl ?_
  refine r_callVI (pc := 16) (As := [.int x1, .int x2]) (st := [.int 0, .int ((0 + (10 * x1)) + x2), rv B p1]) C cs_X6_147_X6_debtOf h (fun _ _ e => w_X6_debtOf (Nat.le_refl 0) e) (fun _ _ e => t_X6_debtOf e) (Nat.le_trans (Nat.le_of_ble_eq_true rfl) hd) (Nat.le_of_ble_eq_true rfl) dX6_pays_16 (fun v3 σ2 h => ?_)
  refine r_iconst (pc := 19) (v := 1) C dX6_pays_19 (by decide) ?_
  refine r_isub (pc := 20) C dX6_pays_20 ?_
  refine r_callSI (pc := 21) (As := [.int 0, .int (v3 - 1)]) (st := [.int ((0 + (10 * x1)) + x2), rv B p1]) C cs_X6_143_X6_max h (fun _ _ e => w_X6_max (Nat.le_refl 0) e) (Nat.le_trans (Nat.le_of_ble_eq_true rfl) hd) (Nat.le_of_ble_eq_true rfl) dX6_pays_21 (fun v5 σ4 h => ?_)
  refine r_iast (pc := 24) C dX6_pays_24 h (fun σ6 h => ?_)
  refine r_aload_n (pc := 25) (i := 0) C dX6_pays_25 rfl rfl ?_
  refine r_iload_n (pc := 26) (i := 2) C dX6_pays_26 rfl rfl ?_
  refine r_callVV (pc := 27) (As := [.int x2]) (st := []) C cs_X6_156_X6_rests h (fun _ e => w_X6_rests (Nat.le_refl 0) e) (fun _ e => t_X6_rests e) (Nat.le_trans (Nat.le_of_ble_eq_true rfl) hd) (Nat.le_of_ble_eq_true rfl) dX6_pays_27 (fun σ7 h => ?_)
  refine r_aload_n (pc := 30) (i := 0) C dX6_pays_30 rfl rfl ?_
  refine r_iload_n (pc := 31) (i := 2) C dX6_pays_31 rfl rfl ?_
  refine r_callVV (pc := 32) (As := [.int x2]) (st := []) C cs_X6_299_X6_chalks h (fun _ e => w_X6_chalks (Nat.le_refl 0) e) (fun _ e => t_X6_chalks e) (Nat.le_trans (Nat.le_of_ble_eq_true rfl) hd) (Nat.le_of_ble_eq_true rfl) dX6_pays_32 (fun σ8 h => ?_)
  exact r_vret (pc := 35) C rfl dX6_pays_35 h E
theorem t_X6_pays {F : Nat} {σ : MM} {a0 : Nat} {x1 : Int32} {x2 : Int32} {r : MM} (h : g_X6_pays F σ a0 x1 x2 = some r) : mT σ a0 = (5, 62) := by
  unfold g_X6_pays at h
  exact (r_ck h).1
def l_X6_holdsAny_2 (K : MM → Option (Int32 × MM)) (F : Nat) (a0 : Nat) (x1 : Int32) : Nat → Int32 → MM → Option (Int32 × MM)
  | 0, _, _ => none
  | f + 1, z2, σ => (gI σ a0 5 62 16).bind fun v1 => if z2 < v1 then ((gP σ a0 5 62 24).bind fun p2 => (aI σ p2 20 z2).bind fun v3 => if v3 = x1 then ((gP σ a0 5 62 26).bind fun p4 => (aI σ p4 20 z2).bind fun v5 => (gP σ a0 5 62 27).bind fun p6 => (aI σ p6 20 z2).bind fun v7 => bq (g_X6_comesTo F σ a0 v5 v7) fun v9 σ8 => if v9 = 1 then (some (1, σ8)) else (l_X6_holdsAny_2 K F a0 x1 f ((z2 + 1)) σ8)) else (l_X6_holdsAny_2 K F a0 x1 f ((z2 + 1)) σ)) else (K σ)
def g_X6_holdsAny (F : Nat) (σ : MM) (a0 : Nat) (x1 : Int32) : Option (Int32 × MM) := if mT σ a0 = (5, 62) then (l_X6_holdsAny_2 (fun (σ10 : MM) => some (0, σ10)) F a0 x1 F 0 σ) else none
theorem wl_X6_holdsAny_2 {B : Nat} {G : XG} {d : Nat} {rf : Int32} {σf : MM} (hd : 2 ≤ d) (C : xC B G yX6_holdsAny cX6_holdsAny 3 (some .boolean) d 0 0) (E : xEnd B G (some (.int rf)) σf 0 0) {K : MM → Option (Int32 × MM)} {F : Nat} {a0 : Nat} {x1 : Int32} (hK : ∀ (σ : MM), K σ = some (rf, σf) → xV B G 0 0 σ 48 [] []) : ∀ (f : Nat) (z2 : Int32) (σ : MM), l_X6_holdsAny_2 K F a0 x1 f z2 σ = some (rf, σf) → xV B G 0 0 σ 2 [(0, rv B a0), (1, .int x1), (2, .int z2)] [] := by
  intro f
  induction f with
  | zero =>
    intro z2 σ h
    have h : none = some (rf, σf) := h
    cases h
  | succ f ih =>
    intro z2 σ h
    rw [l_X6_holdsAny_2.eq_2] at h
    refine r_iload_n (pc := 2) (i := 2) C dX6_holdsAny_2 rfl rfl ?_
    refine r_aload_n (pc := 3) (i := 0) C dX6_holdsAny_3 rfl rfl ?_
    refine r_getI (pc := 4) C fd_X6_255 rfl dX6_holdsAny_4 h (fun v1 h => ?_)
    refine r_icmpge (pc := 7) (tgt := 48) C dX6_holdsAny_7 (by decide) h (fun h => ?_) (fun h => ?_)
    · refine r_pick (lv' := []) [] rfl ?_
      exact hK _ h
    · refine r_aload_n (pc := 10) (i := 0) C dX6_holdsAny_10 rfl rfl ?_
      refine r_getP (pc := 11) C fd_X6_50 rfl dX6_holdsAny_11 h (fun p2 h => ?_)
      refine r_iload_n (pc := 14) (i := 2) C dX6_holdsAny_14 rfl rfl ?_
      refine r_iald (pc := 15) C dX6_holdsAny_15 h (fun v3 h => ?_)
      refine r_iload_n (pc := 16) (i := 1) C dX6_holdsAny_16 rfl rfl ?_
      refine r_icmpne (pc := 17) (tgt := 42) C dX6_holdsAny_17 (by decide) h (fun h => ?_) (fun h => ?_)
      · refine r_iinc (pc := 42) (i := 2) (v := (z2 + 1)) C dX6_holdsAny_42 rfl rfl (by decide) ?_
        refine r_goto (pc := 45) (tgt := 2) C dX6_holdsAny_45 (by decide) ?_
        refine r_pick (lv' := [(0, rv B a0), (1, .int x1), (2, .int (z2 + 1))]) [0, 1, 2] rfl ?_
        exact ih _ _ h
      · refine r_aload_n (pc := 20) (i := 0) C dX6_holdsAny_20 rfl rfl ?_
        refine r_aload_n (pc := 21) (i := 0) C dX6_holdsAny_21 rfl rfl ?_
        refine r_getP (pc := 22) C fd_X6_56 rfl dX6_holdsAny_22 h (fun p4 h => ?_)
        refine r_iload_n (pc := 25) (i := 2) C dX6_holdsAny_25 rfl rfl ?_
        refine r_iald (pc := 26) C dX6_holdsAny_26 h (fun v5 h => ?_)
        refine r_aload_n (pc := 27) (i := 0) C dX6_holdsAny_27 rfl rfl ?_
        refine r_getP (pc := 28) C fd_X6_59 rfl dX6_holdsAny_28 h (fun p6 h => ?_)
        refine r_iload_n (pc := 31) (i := 2) C dX6_holdsAny_31 rfl rfl ?_
        refine r_iald (pc := 32) C dX6_holdsAny_32 h (fun v7 h => ?_)
        refine r_callVI (pc := 33) (As := [.int v5, .int v7]) (st := []) C cs_X6_262_X6_comesTo h (fun _ _ e => w_X6_comesTo (Nat.le_refl 1) e) (fun _ _ e => t_X6_comesTo e) (Nat.le_trans (Nat.le_of_ble_eq_true rfl) hd) (Nat.le_of_ble_eq_true rfl) dX6_holdsAny_33 (fun v9 σ8 h => ?_)
        refine r_iconst (pc := 36) (v := 1) C dX6_holdsAny_36 (by decide) ?_
        refine r_icmpne (pc := 37) (tgt := 42) C dX6_holdsAny_37 (by decide) h (fun h => ?_) (fun h => ?_)
        · refine r_iinc (pc := 42) (i := 2) (v := (z2 + 1)) C dX6_holdsAny_42 rfl rfl (by decide) ?_
          refine r_goto (pc := 45) (tgt := 2) C dX6_holdsAny_45 (by decide) ?_
          refine r_pick (lv' := [(0, rv B a0), (1, .int x1), (2, .int (z2 + 1))]) [0, 1, 2] rfl ?_
          exact ih _ _ h
        · refine r_iconst (pc := 40) (v := 1) C dX6_holdsAny_40 (by decide) ?_
          exact r_zretL (pc := 41) C rfl dX6_holdsAny_41 (Or.inr rfl) h E
theorem w_X6_holdsAny {B F : Nat} {d : Nat} {σ : MM} {a0 : Nat} {x1 : Int32} {rf : Int32} {σf : MM} (hd : 2 ≤ d) (h : g_X6_holdsAny F σ a0 x1 = some (rf, σf)) : xMA B yX6_holdsAny cX6_holdsAny 3 (some .boolean) d 0 0 [rv B a0, .int x1] σ (some (.int rf)) σf := by
  refine xMA.of (by decide +kernel) (Nat.le_of_ble_eq_true rfl) (cat_rv (cat_int cat_nil)) (fun G C E => ?_)
  unfold g_X6_holdsAny at h
  obtain ⟨-, h⟩ := r_ck h
  refine r_iconst (pc := 0) (v := 0) C dX6_holdsAny_0 (by decide) ?_
  refine r_istore_n (pc := 1) (i := 2) C dX6_holdsAny_1 rfl (by decide) ?_
  refine r_pick (lv' := [(0, rv B a0), (1, .int x1), (2, .int 0)]) [0, 1, 2] rfl ?_
  refine wl_X6_holdsAny_2 hd C E (fun  σ10 h => ?_) _ _ _ h
  refine r_iconst (pc := 48) (v := 0) C dX6_holdsAny_48 (by decide) ?_
  exact r_zretL (pc := 49) C rfl dX6_holdsAny_49 (Or.inl rfl) h E
theorem t_X6_holdsAny {F : Nat} {σ : MM} {a0 : Nat} {x1 : Int32} {r : Int32 × MM} (h : g_X6_holdsAny F σ a0 x1 = some r) : mT σ a0 = (5, 62) := by
  unfold g_X6_holdsAny at h
  exact (r_ck h).1
theorem yd_X6_holdsAny : xYd yX6_holdsAny 1 := ⟨by decide +kernel, by decide +kernel, by decide +kernel⟩
theorem cs_X6_277_X6_holdsAny : xCV RX6 277 yX6_holdsAny cX6_holdsAny 3 (some .boolean) 5 62 1 := ⟨by decide, by decide, _, rfl, yd_X6_holdsAny, Or.inl ⟨rfl, lw_V q1678 q1680 qs88 q122 q1681⟩⟩
def g_X6_likesBy (F : Nat) (σ : MM) (a0 : Nat) (x1 : Int32) (x2 : Int32) : Option (Int32 × MM) := if mT σ a0 = (5, 62) then ((g_X6_feelsTwo F σ a0 x1 x2).bind fun σ1 => bq (g_X6_holdsAny F σ1 a0 115) fun v3 σ2 => if v3 = 0 then (bq (g_X6_byLaw F σ2 a0 101 9999) fun v5 σ4 => some (v5, σ4)) else (some (0, σ2))) else none
theorem w_X6_likesBy {B F : Nat} {d : Nat} {σ : MM} {a0 : Nat} {x1 : Int32} {x2 : Int32} {rf : Int32} {σf : MM} (hd : 3 ≤ d) (h : g_X6_likesBy F σ a0 x1 x2 = some (rf, σf)) : xMA B yX6_likesBy cX6_likesBy 3 (some .int) d 0 0 [rv B a0, .int x1, .int x2] σ (some (.int rf)) σf := by
  refine xMA.of (by decide +kernel) (Nat.le_of_ble_eq_true rfl) (cat_rv (cat_int (cat_int cat_nil))) (fun G C E => ?_)
  unfold g_X6_likesBy at h
  obtain ⟨-, h⟩ := r_ck h
  refine r_aload_n (pc := 0) (i := 0) C dX6_likesBy_0 rfl rfl ?_
  refine r_iload_n (pc := 1) (i := 1) C dX6_likesBy_1 rfl rfl ?_
  refine r_iload_n (pc := 2) (i := 2) C dX6_likesBy_2 rfl rfl ?_
  refine r_callVV (pc := 3) (As := [.int x1, .int x2]) (st := []) C cs_X6_274_X6_feelsTwo h (fun _ e => w_X6_feelsTwo (Nat.le_refl 2) e) (fun _ e => t_X6_feelsTwo e) (Nat.le_trans (Nat.le_of_ble_eq_true rfl) hd) (Nat.le_of_ble_eq_true rfl) dX6_likesBy_3 (fun σ1 h => ?_)
  refine r_aload_n (pc := 6) (i := 0) C dX6_likesBy_6 rfl rfl ?_
  refine r_bipush (pc := 7) (v := 115) C dX6_likesBy_7 (by decide) ?_
  refine r_callVI (pc := 9) (As := [.int 115]) (st := []) C cs_X6_277_X6_holdsAny h (fun _ _ e => w_X6_holdsAny (Nat.le_refl 2) e) (fun _ _ e => t_X6_holdsAny e) (Nat.le_trans (Nat.le_of_ble_eq_true rfl) hd) (Nat.le_of_ble_eq_true rfl) dX6_likesBy_9 (fun v3 σ2 h => ?_)
  refine r_ifeq (pc := 12) (tgt := 19) C dX6_likesBy_12 (by decide) h (fun h => ?_) (fun h => ?_)
  · refine r_aload_n (pc := 19) (i := 0) C dX6_likesBy_19 rfl rfl ?_
    refine r_bipush (pc := 20) (v := 101) C dX6_likesBy_20 (by decide) ?_
    refine r_sipush (pc := 22) (v := 9999) C dX6_likesBy_22 (by decide) ?_
    refine r_callVI (pc := 25) (As := [.int 101, .int 9999]) (st := []) C cs_X6_280_X6_byLaw h (fun _ _ e => w_X6_byLaw (Nat.le_refl 2) e) (fun _ _ e => t_X6_byLaw e) (Nat.le_trans (Nat.le_of_ble_eq_true rfl) hd) (Nat.le_of_ble_eq_true rfl) dX6_likesBy_25 (fun v5 σ4 h => ?_)
    exact r_iret (pc := 28) C rfl dX6_likesBy_28 h E
  · refine r_iconst (pc := 15) (v := 0) C dX6_likesBy_15 (by decide) ?_
    refine r_goto (pc := 16) (tgt := 28) C dX6_likesBy_16 (by decide) ?_
    exact r_iret (pc := 28) C rfl dX6_likesBy_28 h E
theorem t_X6_likesBy {F : Nat} {σ : MM} {a0 : Nat} {x1 : Int32} {x2 : Int32} {r : Int32 × MM} (h : g_X6_likesBy F σ a0 x1 x2 = some r) : mT σ a0 = (5, 62) := by
  unfold g_X6_likesBy at h
  exact (r_ck h).1
theorem yd_X6_likesBy : xYd yX6_likesBy 2 := ⟨by decide +kernel, by decide +kernel, by decide +kernel⟩
theorem cs_X6_312_X6_likesBy : xCV RX6 312 yX6_likesBy cX6_likesBy 3 (some .int) 5 62 2 := ⟨by decide, by decide, _, rfl, yd_X6_likesBy, Or.inl ⟨rfl, lw_V q1674 q1676 qs87 q122 q1677⟩⟩
def l_X6_nextPaid_8 (K : Int32 → MM → Option (Int32 × MM)) (F : Nat) (a0 : Nat) (x1 : Int32) : Nat → Int32 → Int32 → Int32 → MM → Option (Int32 × MM)
  | 0, _, _, _, _ => none
  | f + 1, z2, z3, z4, σ => if z4 < 10 then (bq (g_X6_isPerson F σ a0 z4) fun v2 σ1 => if v2 = 0 then (l_X6_nextPaid_8 K F a0 x1 f z2 z3 ((z4 + 1)) σ1) else (bq (g_X6_debtOf F σ1 a0 x1 z4) fun v4 σ3 => if v4 = 0 then (l_X6_nextPaid_8 K F a0 x1 f z2 z3 ((z4 + 1)) σ3) else (bq (g_X6_likesBy F σ3 a0 x1 z4) fun v6 σ5 => if z3 < v6 then (l_X6_nextPaid_8 K F a0 x1 f z4 v6 ((z4 + 1)) σ5) else (l_X6_nextPaid_8 K F a0 x1 f z2 z3 ((z4 + 1)) σ5)))) else (K z2 σ)
def g_X6_nextPaid (F : Nat) (σ : MM) (a0 : Nat) (x1 : Int32) : Option (Int32 × MM) := if mT σ a0 = (5, 62) then (l_X6_nextPaid_8 (fun (r2_8 : Int32) (σ7 : MM) => some (r2_8, σ7)) F a0 x1 F ((-2)) 0 0 σ) else none
theorem wl_X6_nextPaid_8 {B : Nat} {G : XG} {d : Nat} {rf : Int32} {σf : MM} (hd : 4 ≤ d) (C : xC B G yX6_nextPaid cX6_nextPaid 6 (some .int) d 0 0) (E : xEnd B G (some (.int rf)) σf 0 0) {K : Int32 → MM → Option (Int32 × MM)} {F : Nat} {a0 : Nat} {x1 : Int32} (hK : ∀ (q2 : Int32) (σ : MM), K q2 σ = some (rf, σf) → xV B G 0 0 σ 67 [(2, .int q2)] []) : ∀ (f : Nat) (z2 : Int32) (z3 : Int32) (z4 : Int32) (σ : MM), l_X6_nextPaid_8 K F a0 x1 f z2 z3 z4 σ = some (rf, σf) → xV B G 0 0 σ 8 [(0, rv B a0), (1, .int x1), (2, .int z2), (3, .int z3), (4, .int z4)] [] := by
  intro f
  induction f with
  | zero =>
    intro z2 z3 z4 σ h
    have h : none = some (rf, σf) := h
    cases h
  | succ f ih =>
    intro z2 z3 z4 σ h
    rw [l_X6_nextPaid_8.eq_2] at h
    refine r_iload (pc := 8) (i := 4) C dX6_nextPaid_8 rfl ?_
    refine r_bipush (pc := 10) (v := 10) C dX6_nextPaid_10 (by decide) ?_
    refine r_icmpge (pc := 12) (tgt := 67) C dX6_nextPaid_12 (by decide) h (fun h => ?_) (fun h => ?_)
    · refine r_pick (lv' := [(2, .int z2)]) [2] rfl ?_
      exact hK _ _ h
    · refine r_aload_n (pc := 15) (i := 0) C dX6_nextPaid_15 rfl rfl ?_
      refine r_iload (pc := 16) (i := 4) C dX6_nextPaid_16 rfl ?_
      refine r_callVI (pc := 18) (As := [.int z4]) (st := []) C cs_X6_135_X6_isPerson h (fun _ _ e => w_X6_isPerson (Nat.le_refl 1) e) (fun _ _ e => t_X6_isPerson e) (Nat.le_trans (Nat.le_of_ble_eq_true rfl) hd) (Nat.le_of_ble_eq_true rfl) dX6_nextPaid_18 (fun v2 σ1 h => ?_)
      refine r_ifeq (pc := 21) (tgt := 61) C dX6_nextPaid_21 (by decide) h (fun h => ?_) (fun h => ?_)
      · refine r_iinc (pc := 61) (i := 4) (v := (z4 + 1)) C dX6_nextPaid_61 rfl rfl (by decide) ?_
        refine r_goto (pc := 64) (tgt := 8) C dX6_nextPaid_64 (by decide) ?_
        refine r_pick (lv' := [(0, rv B a0), (1, .int x1), (2, .int z2), (3, .int z3), (4, .int (z4 + 1))]) [0, 1, 2, 3, 4] rfl ?_
        exact ih _ _ _ _ h
      · refine r_aload_n (pc := 24) (i := 0) C dX6_nextPaid_24 rfl rfl ?_
        refine r_iload_n (pc := 25) (i := 1) C dX6_nextPaid_25 rfl rfl ?_
        refine r_iload (pc := 26) (i := 4) C dX6_nextPaid_26 rfl ?_
        refine r_callVI (pc := 28) (As := [.int x1, .int z4]) (st := []) C cs_X6_147_X6_debtOf h (fun _ _ e => w_X6_debtOf (Nat.le_refl 0) e) (fun _ _ e => t_X6_debtOf e) (Nat.le_trans (Nat.le_of_ble_eq_true rfl) hd) (Nat.le_of_ble_eq_true rfl) dX6_nextPaid_28 (fun v4 σ3 h => ?_)
        refine r_ifne (pc := 31) (tgt := 37) C dX6_nextPaid_31 (by decide) h (fun h => ?_) (fun h => ?_)
        · refine r_aload_n (pc := 37) (i := 0) C dX6_nextPaid_37 rfl rfl ?_
          refine r_iload_n (pc := 38) (i := 1) C dX6_nextPaid_38 rfl rfl ?_
          refine r_iload (pc := 39) (i := 4) C dX6_nextPaid_39 rfl ?_
          refine r_callVI (pc := 41) (As := [.int x1, .int z4]) (st := []) C cs_X6_312_X6_likesBy h (fun _ _ e => w_X6_likesBy (Nat.le_refl 3) e) (fun _ _ e => t_X6_likesBy e) (Nat.le_trans (Nat.le_of_ble_eq_true rfl) hd) (Nat.le_of_ble_eq_true rfl) dX6_nextPaid_41 (fun v6 σ5 h => ?_)
          refine r_istore (pc := 44) (i := 5) C dX6_nextPaid_44 (by decide) ?_
          refine r_iload (pc := 46) (i := 5) C dX6_nextPaid_46 rfl ?_
          refine r_iload_n (pc := 48) (i := 3) C dX6_nextPaid_48 rfl rfl ?_
          refine r_icmpgt (pc := 49) (tgt := 55) C dX6_nextPaid_49 (by decide) h (fun h => ?_) (fun h => ?_)
          · refine r_iload (pc := 55) (i := 5) C dX6_nextPaid_55 rfl ?_
            refine r_istore_n (pc := 57) (i := 3) C dX6_nextPaid_57 rfl (by decide) ?_
            refine r_iload (pc := 58) (i := 4) C dX6_nextPaid_58 rfl ?_
            refine r_istore_n (pc := 60) (i := 2) C dX6_nextPaid_60 rfl (by decide) ?_
            refine r_iinc (pc := 61) (i := 4) (v := (z4 + 1)) C dX6_nextPaid_61 rfl rfl (by decide) ?_
            refine r_goto (pc := 64) (tgt := 8) C dX6_nextPaid_64 (by decide) ?_
            refine r_pick (lv' := [(0, rv B a0), (1, .int x1), (2, .int z4), (3, .int v6), (4, .int (z4 + 1))]) [0, 1, 2, 3, 4] rfl ?_
            exact ih _ _ _ _ h
          · refine r_goto (pc := 52) (tgt := 61) C dX6_nextPaid_52 (by decide) ?_
            refine r_iinc (pc := 61) (i := 4) (v := (z4 + 1)) C dX6_nextPaid_61 rfl rfl (by decide) ?_
            refine r_goto (pc := 64) (tgt := 8) C dX6_nextPaid_64 (by decide) ?_
            refine r_pick (lv' := [(0, rv B a0), (1, .int x1), (2, .int z2), (3, .int z3), (4, .int (z4 + 1))]) [0, 1, 2, 3, 4] rfl ?_
            exact ih _ _ _ _ h
        · refine r_goto (pc := 34) (tgt := 61) C dX6_nextPaid_34 (by decide) ?_
          refine r_iinc (pc := 61) (i := 4) (v := (z4 + 1)) C dX6_nextPaid_61 rfl rfl (by decide) ?_
          refine r_goto (pc := 64) (tgt := 8) C dX6_nextPaid_64 (by decide) ?_
          refine r_pick (lv' := [(0, rv B a0), (1, .int x1), (2, .int z2), (3, .int z3), (4, .int (z4 + 1))]) [0, 1, 2, 3, 4] rfl ?_
          exact ih _ _ _ _ h
theorem w_X6_nextPaid {B F : Nat} {d : Nat} {σ : MM} {a0 : Nat} {x1 : Int32} {rf : Int32} {σf : MM} (hd : 4 ≤ d) (h : g_X6_nextPaid F σ a0 x1 = some (rf, σf)) : xMA B yX6_nextPaid cX6_nextPaid 6 (some .int) d 0 0 [rv B a0, .int x1] σ (some (.int rf)) σf := by
  refine xMA.of (by decide +kernel) (Nat.le_of_ble_eq_true rfl) (cat_rv (cat_int cat_nil)) (fun G C E => ?_)
  unfold g_X6_nextPaid at h
  obtain ⟨-, h⟩ := r_ck h
  refine r_bipush (pc := 0) (v := (-2)) C dX6_nextPaid_0 (by decide) ?_
  refine r_istore_n (pc := 2) (i := 2) C dX6_nextPaid_2 rfl (by decide) ?_
  refine r_iconst (pc := 3) (v := 0) C dX6_nextPaid_3 (by decide) ?_
  refine r_istore_n (pc := 4) (i := 3) C dX6_nextPaid_4 rfl (by decide) ?_
  refine r_iconst (pc := 5) (v := 0) C dX6_nextPaid_5 (by decide) ?_
  refine r_istore (pc := 6) (i := 4) C dX6_nextPaid_6 (by decide) ?_
  refine r_pick (lv' := [(0, rv B a0), (1, .int x1), (2, .int (-2)), (3, .int 0), (4, .int 0)]) [0, 1, 2, 3, 4] rfl ?_
  refine wl_X6_nextPaid_8 hd C E (fun r2_8 σ7 h => ?_) _ _ _ _ _ h
  refine r_iload_n (pc := 67) (i := 2) C dX6_nextPaid_67 rfl rfl ?_
  exact r_iret (pc := 68) C rfl dX6_nextPaid_68 h E
theorem t_X6_nextPaid {F : Nat} {σ : MM} {a0 : Nat} {x1 : Int32} {r : Int32 × MM} (h : g_X6_nextPaid F σ a0 x1 = some r) : mT σ a0 = (5, 62) := by
  unfold g_X6_nextPaid at h
  exact (r_ck h).1
def g_X6_setsOut (F : Nat) (σ : MM) (a0 : Nat) (x1 : Int32) (x2 : Int32) : Option (MM) := if mT σ a0 = (5, 62) then ((gP σ a0 5 62 0).bind fun p1 => (sI σ p1 151 ((-2))).bind fun σ2 => (gP σ2 a0 5 62 0).bind fun p3 => (sI σ2 p3 152 x1).bind fun σ4 => (gP σ4 a0 5 62 0).bind fun p5 => (sI σ4 p5 153 x2).bind fun σ6 => (gP σ6 a0 5 62 0).bind fun p7 => bq (g_X6_wayOf F σ6 a0 x1 x2) fun v9 σ8 => (sI σ8 p7 154 v9).bind fun σ10 => some σ10) else none
theorem w_X6_setsOut {B F : Nat} {d : Nat} {σ : MM} {a0 : Nat} {x1 : Int32} {x2 : Int32} {σf : MM} (hd : 2 ≤ d) (h : g_X6_setsOut F σ a0 x1 x2 = some σf) : xMA B yX6_setsOut cX6_setsOut 3 none d 0 0 [rv B a0, .int x1, .int x2] σ none σf := by
  refine xMA.of (by decide +kernel) (Nat.le_of_ble_eq_true rfl) (cat_rv (cat_int (cat_int cat_nil))) (fun G C E => ?_)
  unfold g_X6_setsOut at h
  obtain ⟨-, h⟩ := r_ck h
  refine r_aload_n (pc := 0) (i := 0) C dX6_setsOut_0 rfl rfl ?_
  refine r_getP (pc := 1) C fd_X6_7 rfl dX6_setsOut_1 h (fun p1 h => ?_)
  refine r_sipush (pc := 4) (v := 151) C dX6_setsOut_4 (by decide) ?_
  refine r_bipush (pc := 7) (v := (-2)) C dX6_setsOut_7 (by decide) ?_
  refine r_iast (pc := 9) C dX6_setsOut_9 h (fun σ2 h => ?_)
  refine r_aload_n (pc := 10) (i := 0) C dX6_setsOut_10 rfl rfl ?_
  refine r_getP (pc := 11) C fd_X6_7 rfl dX6_setsOut_11 h (fun p3 h => ?_)
  refine r_sipush (pc := 14) (v := 152) C dX6_setsOut_14 (by decide) ?_
  refine r_iload_n (pc := 17) (i := 1) C dX6_setsOut_17 rfl rfl ?_
  refine r_iast (pc := 18) C dX6_setsOut_18 h (fun σ4 h => ?_)
  refine r_aload_n (pc := 19) (i := 0) C dX6_setsOut_19 rfl rfl ?_
  refine r_getP (pc := 20) C fd_X6_7 rfl dX6_setsOut_20 h (fun p5 h => ?_)
  refine r_sipush (pc := 23) (v := 153) C dX6_setsOut_23 (by decide) ?_
  refine r_iload_n (pc := 26) (i := 2) C dX6_setsOut_26 rfl rfl ?_
  refine r_iast (pc := 27) C dX6_setsOut_27 h (fun σ6 h => ?_)
  refine r_aload_n (pc := 28) (i := 0) C dX6_setsOut_28 rfl rfl ?_
  refine r_getP (pc := 29) C fd_X6_7 rfl dX6_setsOut_29 h (fun p7 h => ?_)
  refine r_sipush (pc := 32) (v := 154) C dX6_setsOut_32 (by decide) ?_
  refine r_aload_n (pc := 35) (i := 0) C dX6_setsOut_35 rfl rfl ?_
  refine r_iload_n (pc := 36) (i := 1) C dX6_setsOut_36 rfl rfl ?_
  refine r_iload_n (pc := 37) (i := 2) C dX6_setsOut_37 rfl rfl ?_
  refine r_callVI (pc := 38) (As := [.int x1, .int x2]) (st := [.int 154, rv B p7]) C cs_X6_268_X6_wayOf h (fun _ _ e => w_X6_wayOf (Nat.le_refl 1) e) (fun _ _ e => t_X6_wayOf e) (Nat.le_trans (Nat.le_of_ble_eq_true rfl) hd) (Nat.le_of_ble_eq_true rfl) dX6_setsOut_38 (fun v9 σ8 h => ?_)
  refine r_iast (pc := 41) C dX6_setsOut_41 h (fun σ10 h => ?_)
  exact r_vret (pc := 42) C rfl dX6_setsOut_42 h E
theorem t_X6_setsOut {F : Nat} {σ : MM} {a0 : Nat} {x1 : Int32} {x2 : Int32} {r : MM} (h : g_X6_setsOut F σ a0 x1 x2 = some r) : mT σ a0 = (5, 62) := by
  unfold g_X6_setsOut at h
  exact (r_ck h).1
theorem yd_X6_nextPaid : xYd yX6_nextPaid 1 := ⟨by decide +kernel, by decide +kernel, by decide +kernel⟩
theorem cs_X6_315_X6_nextPaid : xCV RX6 315 yX6_nextPaid cX6_nextPaid 6 (some .int) 5 62 1 := ⟨by decide, by decide, _, rfl, yd_X6_nextPaid, Or.inl ⟨rfl, lw_V q1670 q1672 qs86 q122 q1673⟩⟩
theorem yd_X6_setsOut : xYd yX6_setsOut 2 := ⟨by decide +kernel, by decide +kernel, by decide +kernel⟩
theorem cs_X6_318_X6_setsOut : xCV RX6 318 yX6_setsOut cX6_setsOut 3 none 5 62 2 := ⟨by decide, by decide, _, rfl, yd_X6_setsOut, Or.inl ⟨rfl, lw_V q1682 q1684 qs89 q122 q1685⟩⟩
def g_X6_holds (F : Nat) (σ : MM) (a0 : Nat) (x1 : Int32) : Option (MM) := if mT σ a0 = (5, 62) then ((gP σ a0 5 62 0).bind fun p1 => (gP σ a0 5 62 0).bind fun p2 => (aI σ p2 20 ((100 + x1))).bind fun v3 => (sI σ p1 ((100 + x1)) ((v3 + 1))).bind fun σ4 => (gP σ4 a0 5 62 0).bind fun p5 => (aI σ4 p5 20 155).bind fun v6 => bq (g_X6_in F σ4 v6 6 19) fun v8 σ7 => if v8 = 0 then (some σ7) else ((gP σ7 a0 5 62 0).bind fun p9 => (aI σ7 p9 20 157).bind fun v10 => if v10 = 1 then (some σ7) else (bq (g_X6_nextPaid F σ7 a0 x1) fun v12 σ11 => if v12 < 0 then (some σ11) else ((g_X6_setsOut F σ11 a0 x1 v12).bind fun σ13 => some σ13)))) else none
theorem w_X6_holds {B F : Nat} {d : Nat} {σ : MM} {a0 : Nat} {x1 : Int32} {σf : MM} (hd : 5 ≤ d) (h : g_X6_holds F σ a0 x1 = some σf) : xMA B yX6_holds cX6_holds 3 none d 0 0 [rv B a0, .int x1] σ none σf := by
  refine xMA.of (by decide +kernel) (Nat.le_of_ble_eq_true rfl) (cat_rv (cat_int cat_nil)) (fun G C E => ?_)
  unfold g_X6_holds at h
  obtain ⟨-, h⟩ := r_ck h
  refine r_aload_n (pc := 0) (i := 0) C dX6_holds_0 rfl rfl ?_
  refine r_getP (pc := 1) C fd_X6_7 rfl dX6_holds_1 h (fun p1 h => ?_)
  refine r_bipush (pc := 4) (v := 100) C dX6_holds_4 (by decide) ?_
  refine r_iload_n (pc := 6) (i := 1) C dX6_holds_6 rfl rfl ?_
  refine r_iadd (pc := 7) C dX6_holds_7 ?_
  refine r_aload_n (pc := 8) (i := 0) C dX6_holds_8 rfl rfl ?_
  refine r_getP (pc := 9) C fd_X6_7 rfl dX6_holds_9 h (fun p2 h => ?_)
  refine r_bipush (pc := 12) (v := 100) C dX6_holds_12 (by decide) ?_
  refine r_iload_n (pc := 14) (i := 1) C dX6_holds_14 rfl rfl ?_
  refine r_iadd (pc := 15) C dX6_holds_15 ?_
  refine r_iald (pc := 16) C dX6_holds_16 h (fun v3 h => ?_)
  refine r_iconst (pc := 17) (v := 1) C dX6_holds_17 (by decide) ?_
  refine r_iadd (pc := 18) C dX6_holds_18 ?_
  refine r_iast (pc := 19) C dX6_holds_19 h (fun σ4 h => ?_)
  refine r_aload_n (pc := 20) (i := 0) C dX6_holds_20 rfl rfl ?_
  refine r_getP (pc := 21) C fd_X6_7 rfl dX6_holds_21 h (fun p5 h => ?_)
  refine r_sipush (pc := 24) (v := 155) C dX6_holds_24 (by decide) ?_
  refine r_iald (pc := 27) C dX6_holds_27 h (fun v6 h => ?_)
  refine r_bipush (pc := 28) (v := 6) C dX6_holds_28 (by decide) ?_
  refine r_bipush (pc := 30) (v := 19) C dX6_holds_30 (by decide) ?_
  refine r_callSI (pc := 32) (As := [.int v6, .int 6, .int 19]) (st := []) C cs_X6_123_X6_in h (fun _ _ e => w_X6_in (Nat.le_refl 0) e) (Nat.le_trans (Nat.le_of_ble_eq_true rfl) hd) (Nat.le_of_ble_eq_true rfl) dX6_holds_32 (fun v8 σ7 h => ?_)
  refine r_ifeq (pc := 35) (tgt := 50) C dX6_holds_35 (by decide) h (fun h => ?_) (fun h => ?_)
  · exact r_vret (pc := 50) C rfl dX6_holds_50 h E
  · refine r_aload_n (pc := 38) (i := 0) C dX6_holds_38 rfl rfl ?_
    refine r_getP (pc := 39) C fd_X6_7 rfl dX6_holds_39 h (fun p9 h => ?_)
    refine r_sipush (pc := 42) (v := 157) C dX6_holds_42 (by decide) ?_
    refine r_iald (pc := 45) C dX6_holds_45 h (fun v10 h => ?_)
    refine r_iconst (pc := 46) (v := 1) C dX6_holds_46 (by decide) ?_
    refine r_icmpne (pc := 47) (tgt := 51) C dX6_holds_47 (by decide) h (fun h => ?_) (fun h => ?_)
    · refine r_aload_n (pc := 51) (i := 0) C dX6_holds_51 rfl rfl ?_
      refine r_iload_n (pc := 52) (i := 1) C dX6_holds_52 rfl rfl ?_
      refine r_callVI (pc := 53) (As := [.int x1]) (st := []) C cs_X6_315_X6_nextPaid h (fun _ _ e => w_X6_nextPaid (Nat.le_refl 4) e) (fun _ _ e => t_X6_nextPaid e) (Nat.le_trans (Nat.le_of_ble_eq_true rfl) hd) (Nat.le_of_ble_eq_true rfl) dX6_holds_53 (fun v12 σ11 h => ?_)
      refine r_istore_n (pc := 56) (i := 2) C dX6_holds_56 rfl (by decide) ?_
      refine r_iload_n (pc := 57) (i := 2) C dX6_holds_57 rfl rfl ?_
      refine r_iflt (pc := 58) (tgt := 67) C dX6_holds_58 (by decide) h (fun h => ?_) (fun h => ?_)
      · exact r_vret (pc := 67) C rfl dX6_holds_67 h E
      · refine r_aload_n (pc := 61) (i := 0) C dX6_holds_61 rfl rfl ?_
        refine r_iload_n (pc := 62) (i := 1) C dX6_holds_62 rfl rfl ?_
        refine r_iload_n (pc := 63) (i := 2) C dX6_holds_63 rfl rfl ?_
        refine r_callVV (pc := 64) (As := [.int x1, .int v12]) (st := []) C cs_X6_318_X6_setsOut h (fun _ e => w_X6_setsOut (Nat.le_refl 2) e) (fun _ e => t_X6_setsOut e) (Nat.le_trans (Nat.le_of_ble_eq_true rfl) hd) (Nat.le_of_ble_eq_true rfl) dX6_holds_64 (fun σ13 h => ?_)
        exact r_vret (pc := 67) C rfl dX6_holds_67 h E
    · exact r_vret (pc := 50) C rfl dX6_holds_50 h E
theorem t_X6_holds {F : Nat} {σ : MM} {a0 : Nat} {x1 : Int32} {r : MM} (h : g_X6_holds F σ a0 x1 = some r) : mT σ a0 = (5, 62) := by
  unfold g_X6_holds at h
  exact (r_ck h).1
theorem fd_X6_321 : xFg RX6 321 5 62 35 := ⟨_, rfl, rfl, by decide, by decide, in_X6, Or.inl q1300⟩
theorem ft_X6_35 : xFt 5 35 .int false := ⟨_, rfl, by decide +kernel, rfl, rfl⟩
theorem yd_X6_holds : xYd yX6_holds 1 := ⟨by decide +kernel, by decide +kernel, by decide +kernel⟩
theorem cs_X6_333_X6_holds : xCV RX6 333 yX6_holds cX6_holds 3 none 5 62 1 := ⟨by decide, by decide, _, rfl, yd_X6_holds, Or.inl ⟨rfl, lw_V q1666 q1668 qs85 q122 q1669⟩⟩
theorem yd_X6_pays : xYd yX6_pays 2 := ⟨by decide +kernel, by decide +kernel, by decide +kernel⟩
theorem cs_X6_327_X6_pays : xCV RX6 327 yX6_pays cX6_pays 3 none 5 62 2 := ⟨by decide, by decide, _, rfl, yd_X6_pays, Or.inl ⟨rfl, lw_V q1658 q1660 qs83 q122 q1661⟩⟩
theorem yd_X6_dayBegins : xYd yX6_dayBegins 0 := ⟨by decide +kernel, by decide +kernel, by decide +kernel⟩
theorem cs_X6_324_X6_dayBegins : xCV RX6 324 yX6_dayBegins cX6_dayBegins 4 none 5 62 0 := ⟨by decide, by decide, _, rfl, yd_X6_dayBegins, Or.inl ⟨rfl, lw_V q1616 q1618 qs75 q122 q1619⟩⟩
def g_X6_hourGoes (F : Nat) (σ : MM) (a0 : Nat) : Option (MM) := if mT σ a0 = (5, 62) then ((pI σ a0 5 62 35 ((-2))).bind fun σ1 => (gP σ1 a0 5 62 0).bind fun p2 => (aI σ1 p2 20 155).bind fun v3 => jn (fun (σ4 : MM) => (gP σ4 a0 5 62 0).bind fun p6 => (aI σ4 p6 20 154).bind fun v7 => jn (fun (σ8 : MM) => (gP σ8 a0 5 62 0).bind fun p10 => (gP σ8 a0 5 62 0).bind fun p11 => (aI σ8 p11 20 155).bind fun v12 => (sI σ8 p10 155 ((v12 + 1))).bind fun σ13 => (gP σ13 a0 5 62 0).bind fun p14 => (aI σ13 p14 20 155).bind fun v15 => if v15 < 24 then (some σ13) else ((gP σ13 a0 5 62 0).bind fun p16 => (sI σ13 p16 155 0).bind fun σ17 => (gP σ17 a0 5 62 0).bind fun p18 => (gP σ17 a0 5 62 0).bind fun p19 => (aI σ17 p19 20 156).bind fun v20 => (sI σ17 p18 156 ((v20 + 1))).bind fun σ21 => some σ21)) (fun k9 => if 0 < v7 then ((gP σ4 a0 5 62 0).bind fun p27 => (gP σ4 a0 5 62 0).bind fun p28 => (aI σ4 p28 20 154).bind fun v29 => (sI σ4 p27 154 ((v29 - 1))).bind fun σ30 => (gP σ30 a0 5 62 0).bind fun p31 => (aI σ30 p31 20 154).bind fun v32 => if v32 = 0 then ((gP σ30 a0 5 62 0).bind fun p33 => (aI σ30 p33 20 153).bind fun v34 => (pI σ30 a0 5 62 35 v34).bind fun σ35 => (gP σ35 a0 5 62 0).bind fun p36 => (aI σ35 p36 20 152).bind fun v37 => (gI σ35 a0 5 62 35).bind fun v38 => (g_X6_pays F σ35 a0 v37 v38).bind fun σ39 => (gI σ39 a0 5 62 32).bind fun v40 => (pI σ39 a0 5 62 32 ((v40 + 1))).bind fun σ41 => k9 σ41) else (k9 σ30)) else ((gP σ4 a0 5 62 0).bind fun p22 => (aI σ4 p22 20 151).bind fun v23 => if v23 < 0 then (k9 σ4) else ((gP σ4 a0 5 62 0).bind fun p24 => (aI σ4 p24 20 151).bind fun v25 => (g_X6_holds F σ4 a0 v25).bind fun σ26 => k9 σ26)))) (fun k5 => if v3 = 0 then ((g_X6_dayBegins F σ1 a0).bind fun σ42 => k5 σ42) else (k5 σ1))) else none
theorem w_X6_hourGoes {B F : Nat} {d : Nat} {σ : MM} {a0 : Nat} {σf : MM} (hd : 6 ≤ d) (h : g_X6_hourGoes F σ a0 = some σf) : xMA B yX6_hourGoes cX6_hourGoes 1 none d 0 0 [rv B a0] σ none σf := by
  refine xMA.of (by decide +kernel) (Nat.le_of_ble_eq_true rfl) (cat_rv cat_nil) (fun G C E => ?_)
  unfold g_X6_hourGoes at h
  obtain ⟨-, h⟩ := r_ck h
  refine r_aload_n (pc := 0) (i := 0) C dX6_hourGoes_0 rfl rfl ?_
  refine r_bipush (pc := 1) (v := (-2)) C dX6_hourGoes_1 (by decide) ?_
  refine r_putI (pc := 3) C fd_X6_321 ft_X6_35 dX6_hourGoes_3 h (fun σ1 h => ?_)
  refine r_aload_n (pc := 6) (i := 0) C dX6_hourGoes_6 rfl rfl ?_
  refine r_getP (pc := 7) C fd_X6_7 rfl dX6_hourGoes_7 h (fun p2 h => ?_)
  refine r_sipush (pc := 10) (v := 155) C dX6_hourGoes_10 (by decide) ?_
  refine r_iald (pc := 13) C dX6_hourGoes_13 h (fun v3 h => ?_)
  refine r_jn (fun k9 => ∀  (σ4 : MM), k9 σ4 = some σf → xV B G 0 0 σ4 21 [(0, rv B a0)] []) h (fun  σ4 h => ?_) (fun k5 hk5 h => ?_)
  · refine r_aload_n (pc := 21) (i := 0) C dX6_hourGoes_21 rfl rfl ?_
    refine r_getP (pc := 22) C fd_X6_7 rfl dX6_hourGoes_22 h (fun p6 h => ?_)
    refine r_sipush (pc := 25) (v := 154) C dX6_hourGoes_25 (by decide) ?_
    refine r_iald (pc := 28) C dX6_hourGoes_28 h (fun v7 h => ?_)
    refine r_jn (fun k9 => ∀  (σ8 : MM), k9 σ8 = some σf → xV B G 0 0 σ8 125 [(0, rv B a0)] []) h (fun  σ8 h => ?_) (fun k9 hk9 h => ?_)
    · refine r_aload_n (pc := 125) (i := 0) C dX6_hourGoes_125 rfl rfl ?_
      refine r_getP (pc := 126) C fd_X6_7 rfl dX6_hourGoes_126 h (fun p10 h => ?_)
      refine r_sipush (pc := 129) (v := 155) C dX6_hourGoes_129 (by decide) ?_
      refine r_aload_n (pc := 132) (i := 0) C dX6_hourGoes_132 rfl rfl ?_
      refine r_getP (pc := 133) C fd_X6_7 rfl dX6_hourGoes_133 h (fun p11 h => ?_)
      refine r_sipush (pc := 136) (v := 155) C dX6_hourGoes_136 (by decide) ?_
      refine r_iald (pc := 139) C dX6_hourGoes_139 h (fun v12 h => ?_)
      refine r_iconst (pc := 140) (v := 1) C dX6_hourGoes_140 (by decide) ?_
      refine r_iadd (pc := 141) C dX6_hourGoes_141 ?_
      refine r_iast (pc := 142) C dX6_hourGoes_142 h (fun σ13 h => ?_)
      refine r_aload_n (pc := 143) (i := 0) C dX6_hourGoes_143 rfl rfl ?_
      refine r_getP (pc := 144) C fd_X6_7 rfl dX6_hourGoes_144 h (fun p14 h => ?_)
      refine r_sipush (pc := 147) (v := 155) C dX6_hourGoes_147 (by decide) ?_
      refine r_iald (pc := 150) C dX6_hourGoes_150 h (fun v15 h => ?_)
      refine r_bipush (pc := 151) (v := 24) C dX6_hourGoes_151 (by decide) ?_
      refine r_icmpge (pc := 153) (tgt := 157) C dX6_hourGoes_153 (by decide) h (fun h => ?_) (fun h => ?_)
      · refine r_aload_n (pc := 157) (i := 0) C dX6_hourGoes_157 rfl rfl ?_
        refine r_getP (pc := 158) C fd_X6_7 rfl dX6_hourGoes_158 h (fun p16 h => ?_)
        refine r_sipush (pc := 161) (v := 155) C dX6_hourGoes_161 (by decide) ?_
        refine r_iconst (pc := 164) (v := 0) C dX6_hourGoes_164 (by decide) ?_
        refine r_iast (pc := 165) C dX6_hourGoes_165 h (fun σ17 h => ?_)
        refine r_aload_n (pc := 166) (i := 0) C dX6_hourGoes_166 rfl rfl ?_
        refine r_getP (pc := 167) C fd_X6_7 rfl dX6_hourGoes_167 h (fun p18 h => ?_)
        refine r_sipush (pc := 170) (v := 156) C dX6_hourGoes_170 (by decide) ?_
        refine r_aload_n (pc := 173) (i := 0) C dX6_hourGoes_173 rfl rfl ?_
        refine r_getP (pc := 174) C fd_X6_7 rfl dX6_hourGoes_174 h (fun p19 h => ?_)
        refine r_sipush (pc := 177) (v := 156) C dX6_hourGoes_177 (by decide) ?_
        refine r_iald (pc := 180) C dX6_hourGoes_180 h (fun v20 h => ?_)
        refine r_iconst (pc := 181) (v := 1) C dX6_hourGoes_181 (by decide) ?_
        refine r_iadd (pc := 182) C dX6_hourGoes_182 ?_
        refine r_iast (pc := 183) C dX6_hourGoes_183 h (fun σ21 h => ?_)
        exact r_vret (pc := 184) C rfl dX6_hourGoes_184 h E
      · exact r_vret (pc := 156) C rfl dX6_hourGoes_156 h E
    · refine r_ifle (pc := 29) (tgt := 102) C dX6_hourGoes_29 (by decide) h (fun h => ?_) (fun h => ?_)
      · refine r_aload_n (pc := 102) (i := 0) C dX6_hourGoes_102 rfl rfl ?_
        refine r_getP (pc := 103) C fd_X6_7 rfl dX6_hourGoes_103 h (fun p22 h => ?_)
        refine r_sipush (pc := 106) (v := 151) C dX6_hourGoes_106 (by decide) ?_
        refine r_iald (pc := 109) C dX6_hourGoes_109 h (fun v23 h => ?_)
        refine r_iflt (pc := 110) (tgt := 125) C dX6_hourGoes_110 (by decide) h (fun h => ?_) (fun h => ?_)
        · refine r_pick (lv' := [(0, rv B a0)]) [0] rfl ?_
          exact hk9 _ h
        · refine r_aload_n (pc := 113) (i := 0) C dX6_hourGoes_113 rfl rfl ?_
          refine r_aload_n (pc := 114) (i := 0) C dX6_hourGoes_114 rfl rfl ?_
          refine r_getP (pc := 115) C fd_X6_7 rfl dX6_hourGoes_115 h (fun p24 h => ?_)
          refine r_sipush (pc := 118) (v := 151) C dX6_hourGoes_118 (by decide) ?_
          refine r_iald (pc := 121) C dX6_hourGoes_121 h (fun v25 h => ?_)
          refine r_callVV (pc := 122) (As := [.int v25]) (st := []) C cs_X6_333_X6_holds h (fun _ e => w_X6_holds (Nat.le_refl 5) e) (fun _ e => t_X6_holds e) (Nat.le_trans (Nat.le_of_ble_eq_true rfl) hd) (Nat.le_of_ble_eq_true rfl) dX6_hourGoes_122 (fun σ26 h => ?_)
          refine r_pick (lv' := [(0, rv B a0)]) [0] rfl ?_
          exact hk9 _ h
      · refine r_aload_n (pc := 32) (i := 0) C dX6_hourGoes_32 rfl rfl ?_
        refine r_getP (pc := 33) C fd_X6_7 rfl dX6_hourGoes_33 h (fun p27 h => ?_)
        refine r_sipush (pc := 36) (v := 154) C dX6_hourGoes_36 (by decide) ?_
        refine r_aload_n (pc := 39) (i := 0) C dX6_hourGoes_39 rfl rfl ?_
        refine r_getP (pc := 40) C fd_X6_7 rfl dX6_hourGoes_40 h (fun p28 h => ?_)
        refine r_sipush (pc := 43) (v := 154) C dX6_hourGoes_43 (by decide) ?_
        refine r_iald (pc := 46) C dX6_hourGoes_46 h (fun v29 h => ?_)
        refine r_iconst (pc := 47) (v := 1) C dX6_hourGoes_47 (by decide) ?_
        refine r_isub (pc := 48) C dX6_hourGoes_48 ?_
        refine r_iast (pc := 49) C dX6_hourGoes_49 h (fun σ30 h => ?_)
        refine r_aload_n (pc := 50) (i := 0) C dX6_hourGoes_50 rfl rfl ?_
        refine r_getP (pc := 51) C fd_X6_7 rfl dX6_hourGoes_51 h (fun p31 h => ?_)
        refine r_sipush (pc := 54) (v := 154) C dX6_hourGoes_54 (by decide) ?_
        refine r_iald (pc := 57) C dX6_hourGoes_57 h (fun v32 h => ?_)
        refine r_ifne (pc := 58) (tgt := 125) C dX6_hourGoes_58 (by decide) h (fun h => ?_) (fun h => ?_)
        · refine r_pick (lv' := [(0, rv B a0)]) [0] rfl ?_
          exact hk9 _ h
        · refine r_aload_n (pc := 61) (i := 0) C dX6_hourGoes_61 rfl rfl ?_
          refine r_aload_n (pc := 62) (i := 0) C dX6_hourGoes_62 rfl rfl ?_
          refine r_getP (pc := 63) C fd_X6_7 rfl dX6_hourGoes_63 h (fun p33 h => ?_)
          refine r_sipush (pc := 66) (v := 153) C dX6_hourGoes_66 (by decide) ?_
          refine r_iald (pc := 69) C dX6_hourGoes_69 h (fun v34 h => ?_)
          refine r_putI (pc := 70) C fd_X6_321 ft_X6_35 dX6_hourGoes_70 h (fun σ35 h => ?_)
          refine r_aload_n (pc := 73) (i := 0) C dX6_hourGoes_73 rfl rfl ?_
          refine r_aload_n (pc := 74) (i := 0) C dX6_hourGoes_74 rfl rfl ?_
          refine r_getP (pc := 75) C fd_X6_7 rfl dX6_hourGoes_75 h (fun p36 h => ?_)
          refine r_sipush (pc := 78) (v := 152) C dX6_hourGoes_78 (by decide) ?_
          refine r_iald (pc := 81) C dX6_hourGoes_81 h (fun v37 h => ?_)
          refine r_aload_n (pc := 82) (i := 0) C dX6_hourGoes_82 rfl rfl ?_
          refine r_getI (pc := 83) C fd_X6_321 rfl dX6_hourGoes_83 h (fun v38 h => ?_)
          refine r_callVV (pc := 86) (As := [.int v37, .int v38]) (st := []) C cs_X6_327_X6_pays h (fun _ e => w_X6_pays (Nat.le_refl 1) e) (fun _ e => t_X6_pays e) (Nat.le_trans (Nat.le_of_ble_eq_true rfl) hd) (Nat.le_of_ble_eq_true rfl) dX6_hourGoes_86 (fun σ39 h => ?_)
          refine r_aload_n (pc := 89) (i := 0) C dX6_hourGoes_89 rfl rfl ?_
          refine r_aload_n (pc := 90) (i := 0) C dX6_hourGoes_90 rfl rfl ?_
          refine r_getI (pc := 91) C fd_X6_330 rfl dX6_hourGoes_91 h (fun v40 h => ?_)
          refine r_iconst (pc := 94) (v := 1) C dX6_hourGoes_94 (by decide) ?_
          refine r_iadd (pc := 95) C dX6_hourGoes_95 ?_
          refine r_putI (pc := 96) C fd_X6_330 ft_X6_32 dX6_hourGoes_96 h (fun σ41 h => ?_)
          refine r_goto (pc := 99) (tgt := 125) C dX6_hourGoes_99 (by decide) ?_
          refine r_pick (lv' := [(0, rv B a0)]) [0] rfl ?_
          exact hk9 _ h
  · refine r_ifne (pc := 14) (tgt := 21) C dX6_hourGoes_14 (by decide) h (fun h => ?_) (fun h => ?_)
    · refine r_pick (lv' := [(0, rv B a0)]) [0] rfl ?_
      exact hk5 _ h
    · refine r_aload_n (pc := 17) (i := 0) C dX6_hourGoes_17 rfl rfl ?_
      refine r_callVV (pc := 18) (As := []) (st := []) C cs_X6_324_X6_dayBegins h (fun _ e => w_X6_dayBegins (Nat.le_refl 4) e) (fun _ e => t_X6_dayBegins e) (Nat.le_trans (Nat.le_of_ble_eq_true rfl) hd) (Nat.le_of_ble_eq_true rfl) dX6_hourGoes_18 (fun σ42 h => ?_)
      refine r_pick (lv' := [(0, rv B a0)]) [0] rfl ?_
      exact hk5 _ h
theorem t_X6_hourGoes {F : Nat} {σ : MM} {a0 : Nat} {r : MM} (h : g_X6_hourGoes F σ a0 = some r) : mT σ a0 = (5, 62) := by
  unfold g_X6_hourGoes at h
  exact (r_ck h).1
theorem yd_X6_begins : xYd yX6_begins 0 := ⟨by decide +kernel, by decide +kernel, by decide +kernel⟩
theorem cs_X6_336_X6_begins : xCV RX6 336 yX6_begins cX6_begins 1 none 5 62 0 := ⟨by decide, by decide, _, rfl, yd_X6_begins, Or.inl ⟨rfl, lw_V q1608 q1610 qs73 q122 q1611⟩⟩
theorem yd_X6_hourGoes : xYd yX6_hourGoes 0 := ⟨by decide +kernel, by decide +kernel, by decide +kernel⟩
theorem cs_X6_339_X6_hourGoes : xCV RX6 339 yX6_hourGoes cX6_hourGoes 1 none 5 62 0 := ⟨by decide, by decide, _, rfl, yd_X6_hourGoes, Or.inl ⟨rfl, lw_V q1612 q1614 qs74 q122 q1615⟩⟩
def l_X6_hoursGo_6 (K : MM → Option (MM)) (F : Nat) (a0 : Nat) (x1 : Int32) : Nat → Int32 → MM → Option (MM)
  | 0, _, _ => none
  | f + 1, z2, σ => if z2 < x1 then ((gP σ a0 5 62 0).bind fun p2 => (aI σ p2 20 156).bind fun v3 => if v3 < 9999 then ((g_X6_hourGoes F σ a0).bind fun σ4 => l_X6_hoursGo_6 K F a0 x1 f ((z2 + 1)) σ4) else (K σ)) else (K σ)
def g_X6_hoursGo (F : Nat) (σ : MM) (a0 : Nat) (x1 : Int32) : Option (MM) := if mT σ a0 = (5, 62) then ((g_X6_begins F σ a0).bind fun σ1 => l_X6_hoursGo_6 (fun (σ5 : MM) => some σ5) F a0 x1 F 0 σ1) else none
theorem wl_X6_hoursGo_6 {B : Nat} {G : XG} {d : Nat} {σf : MM} (hd : 7 ≤ d) (C : xC B G yX6_hoursGo cX6_hoursGo 3 none d 0 0) (E : xEnd B G none σf 0 0) {K : MM → Option (MM)} {F : Nat} {a0 : Nat} {x1 : Int32} (hK : ∀ (σ : MM), K σ = some σf → xV B G 0 0 σ 35 [] []) : ∀ (f : Nat) (z2 : Int32) (σ : MM), l_X6_hoursGo_6 K F a0 x1 f z2 σ = some σf → xV B G 0 0 σ 6 [(0, rv B a0), (1, .int x1), (2, .int z2)] [] := by
  intro f
  induction f with
  | zero =>
    intro z2 σ h
    have h : none = some σf := h
    cases h
  | succ f ih =>
    intro z2 σ h
    rw [l_X6_hoursGo_6.eq_2] at h
    refine r_iload_n (pc := 6) (i := 2) C dX6_hoursGo_6 rfl rfl ?_
    refine r_iload_n (pc := 7) (i := 1) C dX6_hoursGo_7 rfl rfl ?_
    refine r_icmpge (pc := 8) (tgt := 35) C dX6_hoursGo_8 (by decide) h (fun h => ?_) (fun h => ?_)
    · refine r_pick (lv' := []) [] rfl ?_
      exact hK _ h
    · refine r_aload_n (pc := 11) (i := 0) C dX6_hoursGo_11 rfl rfl ?_
      refine r_getP (pc := 12) C fd_X6_7 rfl dX6_hoursGo_12 h (fun p2 h => ?_)
      refine r_sipush (pc := 15) (v := 156) C dX6_hoursGo_15 (by decide) ?_
      refine r_iald (pc := 18) C dX6_hoursGo_18 h (fun v3 h => ?_)
      refine r_sipush (pc := 19) (v := 9999) C dX6_hoursGo_19 (by decide) ?_
      refine r_icmpge (pc := 22) (tgt := 35) C dX6_hoursGo_22 (by decide) h (fun h => ?_) (fun h => ?_)
      · refine r_pick (lv' := []) [] rfl ?_
        exact hK _ h
      · refine r_aload_n (pc := 25) (i := 0) C dX6_hoursGo_25 rfl rfl ?_
        refine r_callVV (pc := 26) (As := []) (st := []) C cs_X6_339_X6_hourGoes h (fun _ e => w_X6_hourGoes (Nat.le_refl 6) e) (fun _ e => t_X6_hourGoes e) (Nat.le_trans (Nat.le_of_ble_eq_true rfl) hd) (Nat.le_of_ble_eq_true rfl) dX6_hoursGo_26 (fun σ4 h => ?_)
        refine r_iinc (pc := 29) (i := 2) (v := (z2 + 1)) C dX6_hoursGo_29 rfl rfl (by decide) ?_
        refine r_goto (pc := 32) (tgt := 6) C dX6_hoursGo_32 (by decide) ?_
        refine r_pick (lv' := [(0, rv B a0), (1, .int x1), (2, .int (z2 + 1))]) [0, 1, 2] rfl ?_
        exact ih _ _ h
theorem w_X6_hoursGo {B F : Nat} {d : Nat} {σ : MM} {a0 : Nat} {x1 : Int32} {σf : MM} (hd : 7 ≤ d) (h : g_X6_hoursGo F σ a0 x1 = some σf) : xMA B yX6_hoursGo cX6_hoursGo 3 none d 0 0 [rv B a0, .int x1] σ none σf := by
  refine xMA.of (by decide +kernel) (Nat.le_of_ble_eq_true rfl) (cat_rv (cat_int cat_nil)) (fun G C E => ?_)
  unfold g_X6_hoursGo at h
  obtain ⟨-, h⟩ := r_ck h
  refine r_aload_n (pc := 0) (i := 0) C dX6_hoursGo_0 rfl rfl ?_
  refine r_callVV (pc := 1) (As := []) (st := []) C cs_X6_336_X6_begins h (fun _ e => w_X6_begins (Nat.le_refl 0) e) (fun _ e => t_X6_begins e) (Nat.le_trans (Nat.le_of_ble_eq_true rfl) hd) (Nat.le_of_ble_eq_true rfl) dX6_hoursGo_1 (fun σ1 h => ?_)
  refine r_iconst (pc := 4) (v := 0) C dX6_hoursGo_4 (by decide) ?_
  refine r_istore_n (pc := 5) (i := 2) C dX6_hoursGo_5 rfl (by decide) ?_
  refine r_pick (lv' := [(0, rv B a0), (1, .int x1), (2, .int 0)]) [0, 1, 2] rfl ?_
  refine wl_X6_hoursGo_6 hd C E (fun  σ5 h => ?_) _ _ _ h
  exact r_vret (pc := 35) C rfl dX6_hoursGo_35 h E
theorem t_X6_hoursGo {F : Nat} {σ : MM} {a0 : Nat} {x1 : Int32} {r : MM} (h : g_X6_hoursGo F σ a0 x1 = some r) : mT σ a0 = (5, 62) := by
  unfold g_X6_hoursGo at h
  exact (r_ck h).1
theorem yd_X6_hoursGo : xYd yX6_hoursGo 1 := ⟨by decide +kernel, by decide +kernel, by decide +kernel⟩
theorem cs_X6_342_X6_hoursGo : xCV RX6 342 yX6_hoursGo cX6_hoursGo 3 none 5 62 1 := ⟨by decide, by decide, _, rfl, yd_X6_hoursGo, Or.inl ⟨rfl, lw_V q1604 q1606 qs72 q122 q1607⟩⟩
def g_X6_hours (F : Nat) (σ : MM) (a0 : Nat) (x1 : Int32) : Option (Int32 × MM) := if mT σ a0 = (5, 62) then (bq (g_X6_in F σ x1 1 240) fun v2 σ1 => if v2 = 0 then (some ((-1), σ1)) else ((g_X6_hoursGo F σ1 a0 x1).bind fun σ3 => (gI σ3 a0 5 62 32).bind fun v4 => some (v4, σ3))) else none
theorem w_X6_hours {B F : Nat} {d : Nat} {σ : MM} {a0 : Nat} {x1 : Int32} {rf : Int32} {σf : MM} (hd : 8 ≤ d) (h : g_X6_hours F σ a0 x1 = some (rf, σf)) : xMA B yX6_hours cX6_hours 2 (some .int) d 0 0 [rv B a0, .int x1] σ (some (.int rf)) σf := by
  refine xMA.of (by decide +kernel) (Nat.le_of_ble_eq_true rfl) (cat_rv (cat_int cat_nil)) (fun G C E => ?_)
  unfold g_X6_hours at h
  obtain ⟨-, h⟩ := r_ck h
  refine r_iload_n (pc := 0) (i := 1) C dX6_hours_0 rfl rfl ?_
  refine r_iconst (pc := 1) (v := 1) C dX6_hours_1 (by decide) ?_
  refine r_sipush (pc := 2) (v := 240) C dX6_hours_2 (by decide) ?_
  refine r_callSI (pc := 5) (As := [.int x1, .int 1, .int 240]) (st := []) C cs_X6_123_X6_in h (fun _ _ e => w_X6_in (Nat.le_refl 0) e) (Nat.le_trans (Nat.le_of_ble_eq_true rfl) hd) (Nat.le_of_ble_eq_true rfl) dX6_hours_5 (fun v2 σ1 h => ?_)
  refine r_ifne (pc := 8) (tgt := 13) C dX6_hours_8 (by decide) h (fun h => ?_) (fun h => ?_)
  · refine r_aload_n (pc := 13) (i := 0) C dX6_hours_13 rfl rfl ?_
    refine r_iload_n (pc := 14) (i := 1) C dX6_hours_14 rfl rfl ?_
    refine r_callVV (pc := 15) (As := [.int x1]) (st := []) C cs_X6_342_X6_hoursGo h (fun _ e => w_X6_hoursGo (Nat.le_refl 7) e) (fun _ e => t_X6_hoursGo e) (Nat.le_trans (Nat.le_of_ble_eq_true rfl) hd) (Nat.le_of_ble_eq_true rfl) dX6_hours_15 (fun σ3 h => ?_)
    refine r_aload_n (pc := 18) (i := 0) C dX6_hours_18 rfl rfl ?_
    refine r_getI (pc := 19) C fd_X6_330 rfl dX6_hours_19 h (fun v4 h => ?_)
    exact r_iret (pc := 22) C rfl dX6_hours_22 h E
  · refine r_iconst (pc := 11) (v := (-1)) C dX6_hours_11 (by decide) ?_
    exact r_iret (pc := 12) C rfl dX6_hours_12 h E
theorem t_X6_hours {F : Nat} {σ : MM} {a0 : Nat} {x1 : Int32} {r : Int32 × MM} (h : g_X6_hours F σ a0 x1 = some r) : mT σ a0 = (5, 62) := by
  unfold g_X6_hours at h
  exact (r_ck h).1
def l_X6_copies_2 (K : MM → Option (MM)) (F : Nat) (a0 : Nat) (a1 : Nat) : Nat → Int32 → MM → Option (MM)
  | 0, _, _ => none
  | f + 1, z2, σ => if z2 < 159 then ((aI σ a0 20 z2).bind fun v1 => (sI σ a1 z2 v1).bind fun σ2 => l_X6_copies_2 K F a0 a1 f ((z2 + 1)) σ2) else (K σ)
def g_X6_copies (F : Nat) (σ : MM) (a0 : Nat) (a1 : Nat) : Option (MM) := l_X6_copies_2 (fun (σ3 : MM) => some σ3) F a0 a1 F 0 σ
theorem wl_X6_copies_2 {B : Nat} {G : XG} {d : Nat} {σf : MM} (hd : 0 ≤ d) (C : xC B G yX6_copies cX6_copies 3 none d 0 0) (E : xEnd B G none σf 0 0) {K : MM → Option (MM)} {F : Nat} {a0 : Nat} {a1 : Nat} (hK : ∀ (σ : MM), K σ = some σf → xV B G 0 0 σ 21 [] []) : ∀ (f : Nat) (z2 : Int32) (σ : MM), l_X6_copies_2 K F a0 a1 f z2 σ = some σf → xV B G 0 0 σ 2 [(0, rv B a0), (1, rv B a1), (2, .int z2)] [] := by
  intro f
  induction f with
  | zero =>
    intro z2 σ h
    have h : none = some σf := h
    cases h
  | succ f ih =>
    intro z2 σ h
    rw [l_X6_copies_2.eq_2] at h
    refine r_iload_n (pc := 2) (i := 2) C dX6_copies_2 rfl rfl ?_
    refine r_sipush (pc := 3) (v := 159) C dX6_copies_3 (by decide) ?_
    refine r_icmpge (pc := 6) (tgt := 21) C dX6_copies_6 (by decide) h (fun h => ?_) (fun h => ?_)
    · refine r_pick (lv' := []) [] rfl ?_
      exact hK _ h
    · refine r_aload_n (pc := 9) (i := 1) C dX6_copies_9 rfl rfl ?_
      refine r_iload_n (pc := 10) (i := 2) C dX6_copies_10 rfl rfl ?_
      refine r_aload_n (pc := 11) (i := 0) C dX6_copies_11 rfl rfl ?_
      refine r_iload_n (pc := 12) (i := 2) C dX6_copies_12 rfl rfl ?_
      refine r_iald (pc := 13) C dX6_copies_13 h (fun v1 h => ?_)
      refine r_iast (pc := 14) C dX6_copies_14 h (fun σ2 h => ?_)
      refine r_iinc (pc := 15) (i := 2) (v := (z2 + 1)) C dX6_copies_15 rfl rfl (by decide) ?_
      refine r_goto (pc := 18) (tgt := 2) C dX6_copies_18 (by decide) ?_
      refine r_pick (lv' := [(0, rv B a0), (1, rv B a1), (2, .int (z2 + 1))]) [0, 1, 2] rfl ?_
      exact ih _ _ h
theorem w_X6_copies {B F : Nat} {d : Nat} {σ : MM} {a0 : Nat} {a1 : Nat} {σf : MM} (hd : 0 ≤ d) (h : g_X6_copies F σ a0 a1 = some σf) : xMA B yX6_copies cX6_copies 3 none d 0 0 [rv B a0, rv B a1] σ none σf := by
  refine xMA.of (by decide +kernel) (Nat.le_of_ble_eq_true rfl) (cat_rv (cat_rv cat_nil)) (fun G C E => ?_)
  unfold g_X6_copies at h
  refine r_iconst (pc := 0) (v := 0) C dX6_copies_0 (by decide) ?_
  refine r_istore_n (pc := 1) (i := 2) C dX6_copies_1 rfl (by decide) ?_
  refine r_pick (lv' := [(0, rv B a0), (1, rv B a1), (2, .int 0)]) [0, 1, 2] rfl ?_
  refine wl_X6_copies_2 hd C E (fun  σ3 h => ?_) _ _ _ h
  exact r_vret (pc := 21) C rfl dX6_copies_21 h E
theorem fd_X6_13 : xFg RX6 13 5 62 1 := ⟨_, rfl, rfl, by decide, by decide, in_X6, Or.inl q1266⟩
theorem ft_X6_1 : xFt 5 1 (.array .int) true := ⟨_, rfl, by decide +kernel, rfl, rfl⟩
theorem yd_X6_copies : xYd yX6_copies 2 := ⟨by decide +kernel, by decide +kernel, by decide +kernel⟩
theorem cs_X6_345_X6_copies : xCS RX6 345 yX6_copies cX6_copies 3 none 2 := ⟨by decide, yd_X6_copies, Or.inl (lw_S q1690 q1691 q122 q1692)⟩
def g_X6_tried (F : Nat) (σ : MM) (a0 : Nat) (x1 : Int32) (x2 : Int32) : Option (Int32 × MM) := if mT σ a0 = (5, 62) then (bq (g_X6_in F σ x1 1 240) fun v2 σ1 => if v2 = 0 then (some ((-1), σ1)) else (bq (g_X6_in F σ1 x2 0 5) fun v4 σ3 => jn (fun (σ5 : MM) => (gP σ5 a0 5 62 0).bind fun p7 => (gP σ5 a0 5 62 1).bind fun p8 => (g_X6_copies F σ5 p7 p8).bind fun σ9 => (g_X6_hoursGo F σ9 a0 x1).bind fun σ10 => jn (fun (y3_12 : Int32) (σ11 : MM) => (gP σ11 a0 5 62 1).bind fun p14 => (gP σ11 a0 5 62 0).bind fun p15 => (g_X6_copies F σ11 p14 p15).bind fun σ16 => some (y3_12, σ16)) (fun k13 => if x2 = 0 then ((gI σ10 a0 5 62 32).bind fun v17 => k13 v17 σ10) else if x2 = 1 then (bq (g_X6_owedInAll F σ10 a0) fun v19 σ18 => k13 v19 σ18) else if x2 = 2 then ((gP σ10 a0 5 62 0).bind fun p20 => (aI σ10 p20 20 151).bind fun v21 => k13 v21 σ10) else if x2 = 3 then ((gI σ10 a0 5 62 33).bind fun v22 => k13 v22 σ10) else if x2 = 4 then ((gI σ10 a0 5 62 34).bind fun v23 => k13 v23 σ10) else if x2 = 5 then ((gP σ10 a0 5 62 0).bind fun p24 => (aI σ10 p24 20 155).bind fun v25 => k13 v25 σ10) else ((gP σ10 a0 5 62 0).bind fun p26 => (aI σ10 p26 20 (((100 + x2) - 10))).bind fun v27 => (gP σ10 a0 5 62 1).bind fun p28 => (aI σ10 p28 20 (((100 + x2) - 10))).bind fun v29 => k13 ((v27 - v29)) σ10))) (fun k6 => if v4 = 0 then (bq (g_X6_in F σ3 x2 10 19) fun v31 σ30 => if v31 = 0 then (some ((-1), σ30)) else (bq (g_X6_isPerson F σ30 a0 ((x2 - 10))) fun v33 σ32 => if v33 = 0 then (some ((-1), σ32)) else (k6 σ32))) else (k6 σ3)))) else none
theorem w_X6_tried {B F : Nat} {d : Nat} {σ : MM} {a0 : Nat} {x1 : Int32} {x2 : Int32} {rf : Int32} {σf : MM} (hd : 8 ≤ d) (h : g_X6_tried F σ a0 x1 x2 = some (rf, σf)) : xMA B yX6_tried cX6_tried 4 (some .int) d 0 0 [rv B a0, .int x1, .int x2] σ (some (.int rf)) σf := by
  refine xMA.of (by decide +kernel) (Nat.le_of_ble_eq_true rfl) (cat_rv (cat_int (cat_int cat_nil))) (fun G C E => ?_)
  unfold g_X6_tried at h
  obtain ⟨-, h⟩ := r_ck h
  refine r_iload_n (pc := 0) (i := 1) C dX6_tried_0 rfl rfl ?_
  refine r_iconst (pc := 1) (v := 1) C dX6_tried_1 (by decide) ?_
  refine r_sipush (pc := 2) (v := 240) C dX6_tried_2 (by decide) ?_
  refine r_callSI (pc := 5) (As := [.int x1, .int 1, .int 240]) (st := []) C cs_X6_123_X6_in h (fun _ _ e => w_X6_in (Nat.le_refl 0) e) (Nat.le_trans (Nat.le_of_ble_eq_true rfl) hd) (Nat.le_of_ble_eq_true rfl) dX6_tried_5 (fun v2 σ1 h => ?_)
  refine r_ifeq (pc := 8) (tgt := 42) C dX6_tried_8 (by decide) h (fun h => ?_) (fun h => ?_)
  · refine r_iconst (pc := 42) (v := (-1)) C dX6_tried_42 (by decide) ?_
    exact r_iret (pc := 43) C rfl dX6_tried_43 h E
  · refine r_iload_n (pc := 11) (i := 2) C dX6_tried_11 rfl rfl ?_
    refine r_iconst (pc := 12) (v := 0) C dX6_tried_12 (by decide) ?_
    refine r_iconst (pc := 13) (v := 5) C dX6_tried_13 (by decide) ?_
    refine r_callSI (pc := 14) (As := [.int x2, .int 0, .int 5]) (st := []) C cs_X6_123_X6_in h (fun _ _ e => w_X6_in (Nat.le_refl 0) e) (Nat.le_trans (Nat.le_of_ble_eq_true rfl) hd) (Nat.le_of_ble_eq_true rfl) dX6_tried_14 (fun v4 σ3 h => ?_)
    refine r_jn (fun k9 => ∀  (σ5 : MM), k9 σ5 = some (rf, σf) → xV B G 0 0 σ5 44 [(0, rv B a0), (1, .int x1), (2, .int x2)] []) h (fun  σ5 h => ?_) (fun k6 hk6 h => ?_)
    · refine r_aload_n (pc := 44) (i := 0) C dX6_tried_44 rfl rfl ?_
      refine r_getP (pc := 45) C fd_X6_7 rfl dX6_tried_45 h (fun p7 h => ?_)
      refine r_aload_n (pc := 48) (i := 0) C dX6_tried_48 rfl rfl ?_
      refine r_getP (pc := 49) C fd_X6_13 rfl dX6_tried_49 h (fun p8 h => ?_)
      refine r_callSV (pc := 52) (As := [rv B p7, rv B p8]) (st := []) C cs_X6_345_X6_copies h (fun _ e => w_X6_copies (Nat.le_refl 0) e) (Nat.le_trans (Nat.le_of_ble_eq_true rfl) hd) (Nat.le_of_ble_eq_true rfl) dX6_tried_52 (fun σ9 h => ?_)
      refine r_aload_n (pc := 55) (i := 0) C dX6_tried_55 rfl rfl ?_
      refine r_iload_n (pc := 56) (i := 1) C dX6_tried_56 rfl rfl ?_
      refine r_callVV (pc := 57) (As := [.int x1]) (st := []) C cs_X6_342_X6_hoursGo h (fun _ e => w_X6_hoursGo (Nat.le_refl 7) e) (fun _ e => t_X6_hoursGo e) (Nat.le_trans (Nat.le_of_ble_eq_true rfl) hd) (Nat.le_of_ble_eq_true rfl) dX6_tried_57 (fun σ10 h => ?_)
      refine r_iload_n (pc := 60) (i := 2) C dX6_tried_60 rfl rfl ?_
      refine r_jn (fun k9 => ∀ (y3_12 : Int32) (σ11 : MM), k9 y3_12 σ11 = some (rf, σf) → xV B G 0 0 σ11 182 [(0, rv B a0), (3, .int y3_12)] []) h (fun y3_12 σ11 h => ?_) (fun k13 hk13 h => ?_)
      · refine r_aload_n (pc := 182) (i := 0) C dX6_tried_182 rfl rfl ?_
        refine r_getP (pc := 183) C fd_X6_13 rfl dX6_tried_183 h (fun p14 h => ?_)
        refine r_aload_n (pc := 186) (i := 0) C dX6_tried_186 rfl rfl ?_
        refine r_getP (pc := 187) C fd_X6_7 rfl dX6_tried_187 h (fun p15 h => ?_)
        refine r_callSV (pc := 190) (As := [rv B p14, rv B p15]) (st := []) C cs_X6_345_X6_copies h (fun _ e => w_X6_copies (Nat.le_refl 0) e) (Nat.le_trans (Nat.le_of_ble_eq_true rfl) hd) (Nat.le_of_ble_eq_true rfl) dX6_tried_190 (fun σ16 h => ?_)
        refine r_iload_n (pc := 193) (i := 3) C dX6_tried_193 rfl rfl ?_
        exact r_iret (pc := 194) C rfl dX6_tried_194 h E
      · by_cases c0_61 : x2 = 0
        · rw [if_pos c0_61] at h
          refine r_tswE (pc := 61) (tgt := 100) C dX6_tried_61 c0_61 (by decide) (by decide) rfl (by decide) ?_
          refine r_aload_n (pc := 100) (i := 0) C dX6_tried_100 rfl rfl ?_
          refine r_getI (pc := 101) C fd_X6_330 rfl dX6_tried_101 h (fun v17 h => ?_)
          refine r_istore_n (pc := 104) (i := 3) C dX6_tried_104 rfl (by decide) ?_
          refine r_goto (pc := 105) (tgt := 182) C dX6_tried_105 (by decide) ?_
          refine r_pick (lv' := [(0, rv B a0), (3, .int v17)]) [0, 3] rfl ?_
          exact hk13 _ _ h
        rw [if_neg c0_61] at h
        by_cases c1_61 : x2 = 1
        · rw [if_pos c1_61] at h
          refine r_tswE (pc := 61) (tgt := 108) C dX6_tried_61 c1_61 (by decide) (by decide) rfl (by decide) ?_
          refine r_aload_n (pc := 108) (i := 0) C dX6_tried_108 rfl rfl ?_
          refine r_callVI (pc := 109) (As := []) (st := []) C cs_X6_296_X6_owedInAll h (fun _ _ e => w_X6_owedInAll (Nat.le_refl 2) e) (fun _ _ e => t_X6_owedInAll e) (Nat.le_trans (Nat.le_of_ble_eq_true rfl) hd) (Nat.le_of_ble_eq_true rfl) dX6_tried_109 (fun v19 σ18 h => ?_)
          refine r_istore_n (pc := 112) (i := 3) C dX6_tried_112 rfl (by decide) ?_
          refine r_goto (pc := 113) (tgt := 182) C dX6_tried_113 (by decide) ?_
          refine r_pick (lv' := [(0, rv B a0), (3, .int v19)]) [0, 3] rfl ?_
          exact hk13 _ _ h
        rw [if_neg c1_61] at h
        by_cases c2_61 : x2 = 2
        · rw [if_pos c2_61] at h
          refine r_tswE (pc := 61) (tgt := 116) C dX6_tried_61 c2_61 (by decide) (by decide) rfl (by decide) ?_
          refine r_aload_n (pc := 116) (i := 0) C dX6_tried_116 rfl rfl ?_
          refine r_getP (pc := 117) C fd_X6_7 rfl dX6_tried_117 h (fun p20 h => ?_)
          refine r_sipush (pc := 120) (v := 151) C dX6_tried_120 (by decide) ?_
          refine r_iald (pc := 123) C dX6_tried_123 h (fun v21 h => ?_)
          refine r_istore_n (pc := 124) (i := 3) C dX6_tried_124 rfl (by decide) ?_
          refine r_goto (pc := 125) (tgt := 182) C dX6_tried_125 (by decide) ?_
          refine r_pick (lv' := [(0, rv B a0), (3, .int v21)]) [0, 3] rfl ?_
          exact hk13 _ _ h
        rw [if_neg c2_61] at h
        by_cases c3_61 : x2 = 3
        · rw [if_pos c3_61] at h
          refine r_tswE (pc := 61) (tgt := 128) C dX6_tried_61 c3_61 (by decide) (by decide) rfl (by decide) ?_
          refine r_aload_n (pc := 128) (i := 0) C dX6_tried_128 rfl rfl ?_
          refine r_getI (pc := 129) C fd_X6_306 rfl dX6_tried_129 h (fun v22 h => ?_)
          refine r_istore_n (pc := 132) (i := 3) C dX6_tried_132 rfl (by decide) ?_
          refine r_goto (pc := 133) (tgt := 182) C dX6_tried_133 (by decide) ?_
          refine r_pick (lv' := [(0, rv B a0), (3, .int v22)]) [0, 3] rfl ?_
          exact hk13 _ _ h
        rw [if_neg c3_61] at h
        by_cases c4_61 : x2 = 4
        · rw [if_pos c4_61] at h
          refine r_tswE (pc := 61) (tgt := 136) C dX6_tried_61 c4_61 (by decide) (by decide) rfl (by decide) ?_
          refine r_aload_n (pc := 136) (i := 0) C dX6_tried_136 rfl rfl ?_
          refine r_getI (pc := 137) C fd_X6_309 rfl dX6_tried_137 h (fun v23 h => ?_)
          refine r_istore_n (pc := 140) (i := 3) C dX6_tried_140 rfl (by decide) ?_
          refine r_goto (pc := 141) (tgt := 182) C dX6_tried_141 (by decide) ?_
          refine r_pick (lv' := [(0, rv B a0), (3, .int v23)]) [0, 3] rfl ?_
          exact hk13 _ _ h
        rw [if_neg c4_61] at h
        by_cases c5_61 : x2 = 5
        · rw [if_pos c5_61] at h
          refine r_tswE (pc := 61) (tgt := 144) C dX6_tried_61 c5_61 (by decide) (by decide) rfl (by decide) ?_
          refine r_aload_n (pc := 144) (i := 0) C dX6_tried_144 rfl rfl ?_
          refine r_getP (pc := 145) C fd_X6_7 rfl dX6_tried_145 h (fun p24 h => ?_)
          refine r_sipush (pc := 148) (v := 155) C dX6_tried_148 (by decide) ?_
          refine r_iald (pc := 151) C dX6_tried_151 h (fun v25 h => ?_)
          refine r_istore_n (pc := 152) (i := 3) C dX6_tried_152 rfl (by decide) ?_
          refine r_goto (pc := 153) (tgt := 182) C dX6_tried_153 (by decide) ?_
          refine r_pick (lv' := [(0, rv B a0), (3, .int v25)]) [0, 3] rfl ?_
          exact hk13 _ _ h
        rw [if_neg c5_61] at h
        refine r_dfl (st := []) (tgt := 156) (pc := 61) ?_ (fun hD => ?_)
        · refine r_aload_n (pc := 156) (i := 0) C dX6_tried_156 rfl rfl ?_
          refine r_getP (pc := 157) C fd_X6_7 rfl dX6_tried_157 h (fun p26 h => ?_)
          refine r_bipush (pc := 160) (v := 100) C dX6_tried_160 (by decide) ?_
          refine r_iload_n (pc := 162) (i := 2) C dX6_tried_162 rfl rfl ?_
          refine r_iadd (pc := 163) C dX6_tried_163 ?_
          refine r_bipush (pc := 164) (v := 10) C dX6_tried_164 (by decide) ?_
          refine r_isub (pc := 166) C dX6_tried_166 ?_
          refine r_iald (pc := 167) C dX6_tried_167 h (fun v27 h => ?_)
          refine r_aload_n (pc := 168) (i := 0) C dX6_tried_168 rfl rfl ?_
          refine r_getP (pc := 169) C fd_X6_13 rfl dX6_tried_169 h (fun p28 h => ?_)
          refine r_bipush (pc := 172) (v := 100) C dX6_tried_172 (by decide) ?_
          refine r_iload_n (pc := 174) (i := 2) C dX6_tried_174 rfl rfl ?_
          refine r_iadd (pc := 175) C dX6_tried_175 ?_
          refine r_bipush (pc := 176) (v := 10) C dX6_tried_176 (by decide) ?_
          refine r_isub (pc := 178) C dX6_tried_178 ?_
          refine r_iald (pc := 179) C dX6_tried_179 h (fun v29 h => ?_)
          refine r_isub (pc := 180) C dX6_tried_180 ?_
          refine r_istore_n (pc := 181) (i := 3) C dX6_tried_181 rfl (by decide) ?_
          refine r_pick (lv' := [(0, rv B a0), (3, .int (v27 - v29))]) [0, 3] rfl ?_
          exact hk13 _ _ h
        have n0_61 := tsw_ne (i := 0) c0_61 (by decide)
        have n1_61 := tsw_ne (i := 1) c1_61 (by decide)
        have n2_61 := tsw_ne (i := 2) c2_61 (by decide)
        have n3_61 := tsw_ne (i := 3) c3_61 (by decide)
        have n4_61 := tsw_ne (i := 4) c4_61 (by decide)
        have n5_61 := tsw_ne (i := 5) c5_61 (by decide)
        exact r_tswO (pc := 61) (tgt := 156) C dX6_tried_61 (by omega) (by decide) hD
    · refine r_ifne (pc := 17) (tgt := 44) C dX6_tried_17 (by decide) h (fun h => ?_) (fun h => ?_)
      · refine r_pick (lv' := [(0, rv B a0), (1, .int x1), (2, .int x2)]) [0, 1, 2] rfl ?_
        exact hk6 _ h
      · refine r_iload_n (pc := 20) (i := 2) C dX6_tried_20 rfl rfl ?_
        refine r_bipush (pc := 21) (v := 10) C dX6_tried_21 (by decide) ?_
        refine r_bipush (pc := 23) (v := 19) C dX6_tried_23 (by decide) ?_
        refine r_callSI (pc := 25) (As := [.int x2, .int 10, .int 19]) (st := []) C cs_X6_123_X6_in h (fun _ _ e => w_X6_in (Nat.le_refl 0) e) (Nat.le_trans (Nat.le_of_ble_eq_true rfl) hd) (Nat.le_of_ble_eq_true rfl) dX6_tried_25 (fun v31 σ30 h => ?_)
        refine r_ifeq (pc := 28) (tgt := 42) C dX6_tried_28 (by decide) h (fun h => ?_) (fun h => ?_)
        · refine r_iconst (pc := 42) (v := (-1)) C dX6_tried_42 (by decide) ?_
          exact r_iret (pc := 43) C rfl dX6_tried_43 h E
        · refine r_aload_n (pc := 31) (i := 0) C dX6_tried_31 rfl rfl ?_
          refine r_iload_n (pc := 32) (i := 2) C dX6_tried_32 rfl rfl ?_
          refine r_bipush (pc := 33) (v := 10) C dX6_tried_33 (by decide) ?_
          refine r_isub (pc := 35) C dX6_tried_35 ?_
          refine r_callVI (pc := 36) (As := [.int (x2 - 10)]) (st := []) C cs_X6_135_X6_isPerson h (fun _ _ e => w_X6_isPerson (Nat.le_refl 1) e) (fun _ _ e => t_X6_isPerson e) (Nat.le_trans (Nat.le_of_ble_eq_true rfl) hd) (Nat.le_of_ble_eq_true rfl) dX6_tried_36 (fun v33 σ32 h => ?_)
          refine r_ifne (pc := 39) (tgt := 44) C dX6_tried_39 (by decide) h (fun h => ?_) (fun h => ?_)
          · refine r_pick (lv' := [(0, rv B a0), (1, .int x1), (2, .int x2)]) [0, 1, 2] rfl ?_
            exact hk6 _ h
          · refine r_iconst (pc := 42) (v := (-1)) C dX6_tried_42 (by decide) ?_
            exact r_iret (pc := 43) C rfl dX6_tried_43 h E
theorem t_X6_tried {F : Nat} {σ : MM} {a0 : Nat} {x1 : Int32} {x2 : Int32} {r : Int32 × MM} (h : g_X6_tried F σ a0 x1 x2 = some r) : mT σ a0 = (5, 62) := by
  unfold g_X6_tried at h
  exact (r_ck h).1
def l_X6_getsAll_4 (K : Int32 → MM → Option (Int32 × MM)) (F : Nat) (a0 : Nat) (x1 : Int32) : Nat → Int32 → Int32 → MM → Option (Int32 × MM)
  | 0, _, _, _ => none
  | f + 1, z2, z3, σ => if z3 < 10 then (bq (g_X6_debtOf F σ a0 z3 x1) fun v2 σ1 => l_X6_getsAll_4 K F a0 x1 f ((z2 + v2)) ((z3 + 1)) σ1) else (K z2 σ)
def g_X6_getsAll (F : Nat) (σ : MM) (a0 : Nat) (x1 : Int32) : Option (Int32 × MM) := if mT σ a0 = (5, 62) then (l_X6_getsAll_4 (fun (r2_4 : Int32) (σ3 : MM) => some (r2_4, σ3)) F a0 x1 F 0 0 σ) else none
theorem wl_X6_getsAll_4 {B : Nat} {G : XG} {d : Nat} {rf : Int32} {σf : MM} (hd : 1 ≤ d) (C : xC B G yX6_getsAll cX6_getsAll 4 (some .int) d 0 0) (E : xEnd B G (some (.int rf)) σf 0 0) {K : Int32 → MM → Option (Int32 × MM)} {F : Nat} {a0 : Nat} {x1 : Int32} (hK : ∀ (q2 : Int32) (σ : MM), K q2 σ = some (rf, σf) → xV B G 0 0 σ 25 [(2, .int q2)] []) : ∀ (f : Nat) (z2 : Int32) (z3 : Int32) (σ : MM), l_X6_getsAll_4 K F a0 x1 f z2 z3 σ = some (rf, σf) → xV B G 0 0 σ 4 [(0, rv B a0), (1, .int x1), (2, .int z2), (3, .int z3)] [] := by
  intro f
  induction f with
  | zero =>
    intro z2 z3 σ h
    have h : none = some (rf, σf) := h
    cases h
  | succ f ih =>
    intro z2 z3 σ h
    rw [l_X6_getsAll_4.eq_2] at h
    refine r_iload_n (pc := 4) (i := 3) C dX6_getsAll_4 rfl rfl ?_
    refine r_bipush (pc := 5) (v := 10) C dX6_getsAll_5 (by decide) ?_
    refine r_icmpge (pc := 7) (tgt := 25) C dX6_getsAll_7 (by decide) h (fun h => ?_) (fun h => ?_)
    · refine r_pick (lv' := [(2, .int z2)]) [2] rfl ?_
      exact hK _ _ h
    · refine r_iload_n (pc := 10) (i := 2) C dX6_getsAll_10 rfl rfl ?_
      refine r_aload_n (pc := 11) (i := 0) C dX6_getsAll_11 rfl rfl ?_
      refine r_iload_n (pc := 12) (i := 3) C dX6_getsAll_12 rfl rfl ?_
      refine r_iload_n (pc := 13) (i := 1) C dX6_getsAll_13 rfl rfl ?_
      refine r_callVI (pc := 14) (As := [.int z3, .int x1]) (st := [.int z2]) C cs_X6_147_X6_debtOf h (fun _ _ e => w_X6_debtOf (Nat.le_refl 0) e) (fun _ _ e => t_X6_debtOf e) (Nat.le_trans (Nat.le_of_ble_eq_true rfl) hd) (Nat.le_of_ble_eq_true rfl) dX6_getsAll_14 (fun v2 σ1 h => ?_)
      refine r_iadd (pc := 17) C dX6_getsAll_17 ?_
      refine r_istore_n (pc := 18) (i := 2) C dX6_getsAll_18 rfl (by decide) ?_
      refine r_iinc (pc := 19) (i := 3) (v := (z3 + 1)) C dX6_getsAll_19 rfl rfl (by decide) ?_
      refine r_goto (pc := 22) (tgt := 4) C dX6_getsAll_22 (by decide) ?_
      refine r_pick (lv' := [(0, rv B a0), (1, .int x1), (2, .int (z2 + v2)), (3, .int (z3 + 1))]) [0, 1, 2, 3] rfl ?_
      exact ih _ _ _ h
theorem w_X6_getsAll {B F : Nat} {d : Nat} {σ : MM} {a0 : Nat} {x1 : Int32} {rf : Int32} {σf : MM} (hd : 1 ≤ d) (h : g_X6_getsAll F σ a0 x1 = some (rf, σf)) : xMA B yX6_getsAll cX6_getsAll 4 (some .int) d 0 0 [rv B a0, .int x1] σ (some (.int rf)) σf := by
  refine xMA.of (by decide +kernel) (Nat.le_of_ble_eq_true rfl) (cat_rv (cat_int cat_nil)) (fun G C E => ?_)
  unfold g_X6_getsAll at h
  obtain ⟨-, h⟩ := r_ck h
  refine r_iconst (pc := 0) (v := 0) C dX6_getsAll_0 (by decide) ?_
  refine r_istore_n (pc := 1) (i := 2) C dX6_getsAll_1 rfl (by decide) ?_
  refine r_iconst (pc := 2) (v := 0) C dX6_getsAll_2 (by decide) ?_
  refine r_istore_n (pc := 3) (i := 3) C dX6_getsAll_3 rfl (by decide) ?_
  refine r_pick (lv' := [(0, rv B a0), (1, .int x1), (2, .int 0), (3, .int 0)]) [0, 1, 2, 3] rfl ?_
  refine wl_X6_getsAll_4 hd C E (fun r2_4 σ3 h => ?_) _ _ _ _ h
  refine r_iload_n (pc := 25) (i := 2) C dX6_getsAll_25 rfl rfl ?_
  exact r_iret (pc := 26) C rfl dX6_getsAll_26 h E
theorem t_X6_getsAll {F : Nat} {σ : MM} {a0 : Nat} {x1 : Int32} {r : Int32 × MM} (h : g_X6_getsAll F σ a0 x1 = some r) : mT σ a0 = (5, 62) := by
  unfold g_X6_getsAll at h
  exact (r_ck h).1
theorem yd_X6_getsAll : xYd yX6_getsAll 1 := ⟨by decide +kernel, by decide +kernel, by decide +kernel⟩
theorem cs_X6_349_X6_getsAll : xCV RX6 349 yX6_getsAll cX6_getsAll 4 (some .int) 5 62 1 := ⟨by decide, by decide, _, rfl, yd_X6_getsAll, Or.inl ⟨rfl, lw_V q1697 q1699 qs90 q122 q1700⟩⟩
def g_X6_personIs (F : Nat) (σ : MM) (a0 : Nat) (x1 : Int32) (x2 : Int32) : Option (Int32 × MM) := if mT σ a0 = (5, 62) then (bq (g_X6_isPerson F σ a0 x1) fun v2 σ1 => if v2 = 0 then (some ((-1), σ1)) else (if x2 = 0 then ((gP σ1 a0 5 62 3).bind fun p3 => (aI σ1 p3 20 x1).bind fun v4 => some (v4, σ1)) else if x2 = 1 then ((gP σ1 a0 5 62 4).bind fun p5 => (aI σ1 p5 20 x1).bind fun v6 => some (v6, σ1)) else if x2 = 2 then (bq (g_X6_owesAll F σ1 a0 x1) fun v8 σ7 => some (v8, σ7)) else if x2 = 3 then (bq (g_X6_getsAll F σ1 a0 x1) fun v10 σ9 => some (v10, σ9)) else if x2 = 4 then ((gP σ1 a0 5 62 0).bind fun p11 => (aI σ1 p11 20 ((100 + x1))).bind fun v12 => some (v12, σ1)) else if x2 = 5 then (bq (g_X6_chalksOf F σ1 a0 x1) fun v14 σ13 => some (v14, σ13)) else (some ((-1), σ1)))) else none
theorem w_X6_personIs {B F : Nat} {d : Nat} {σ : MM} {a0 : Nat} {x1 : Int32} {x2 : Int32} {rf : Int32} {σf : MM} (hd : 2 ≤ d) (h : g_X6_personIs F σ a0 x1 x2 = some (rf, σf)) : xMA B yX6_personIs cX6_personIs 3 (some .int) d 0 0 [rv B a0, .int x1, .int x2] σ (some (.int rf)) σf := by
  refine xMA.of (by decide +kernel) (Nat.le_of_ble_eq_true rfl) (cat_rv (cat_int (cat_int cat_nil))) (fun G C E => ?_)
  unfold g_X6_personIs at h
  obtain ⟨-, h⟩ := r_ck h
  refine r_aload_n (pc := 0) (i := 0) C dX6_personIs_0 rfl rfl ?_
  refine r_iload_n (pc := 1) (i := 1) C dX6_personIs_1 rfl rfl ?_
  refine r_callVI (pc := 2) (As := [.int x1]) (st := []) C cs_X6_135_X6_isPerson h (fun _ _ e => w_X6_isPerson (Nat.le_refl 1) e) (fun _ _ e => t_X6_isPerson e) (Nat.le_trans (Nat.le_of_ble_eq_true rfl) hd) (Nat.le_of_ble_eq_true rfl) dX6_personIs_2 (fun v2 σ1 h => ?_)
  refine r_ifne (pc := 5) (tgt := 10) C dX6_personIs_5 (by decide) h (fun h => ?_) (fun h => ?_)
  · refine r_iload_n (pc := 10) (i := 2) C dX6_personIs_10 rfl rfl ?_
    by_cases c0_11 : x2 = 0
    · rw [if_pos c0_11] at h
      refine r_tswE (pc := 11) (tgt := 48) C dX6_personIs_11 c0_11 (by decide) (by decide) rfl (by decide) ?_
      refine r_aload_n (pc := 48) (i := 0) C dX6_personIs_48 rfl rfl ?_
      refine r_getP (pc := 49) C fd_X6_19 rfl dX6_personIs_49 h (fun p3 h => ?_)
      refine r_iload_n (pc := 52) (i := 1) C dX6_personIs_52 rfl rfl ?_
      refine r_iald (pc := 53) C dX6_personIs_53 h (fun v4 h => ?_)
      exact r_iret (pc := 54) C rfl dX6_personIs_54 h E
    rw [if_neg c0_11] at h
    by_cases c1_11 : x2 = 1
    · rw [if_pos c1_11] at h
      refine r_tswE (pc := 11) (tgt := 55) C dX6_personIs_11 c1_11 (by decide) (by decide) rfl (by decide) ?_
      refine r_aload_n (pc := 55) (i := 0) C dX6_personIs_55 rfl rfl ?_
      refine r_getP (pc := 56) C fd_X6_22 rfl dX6_personIs_56 h (fun p5 h => ?_)
      refine r_iload_n (pc := 59) (i := 1) C dX6_personIs_59 rfl rfl ?_
      refine r_iald (pc := 60) C dX6_personIs_60 h (fun v6 h => ?_)
      exact r_iret (pc := 61) C rfl dX6_personIs_61 h E
    rw [if_neg c1_11] at h
    by_cases c2_11 : x2 = 2
    · rw [if_pos c2_11] at h
      refine r_tswE (pc := 11) (tgt := 62) C dX6_personIs_11 c2_11 (by decide) (by decide) rfl (by decide) ?_
      refine r_aload_n (pc := 62) (i := 0) C dX6_personIs_62 rfl rfl ?_
      refine r_iload_n (pc := 63) (i := 1) C dX6_personIs_63 rfl rfl ?_
      refine r_callVI (pc := 64) (As := [.int x1]) (st := []) C cs_X6_150_X6_owesAll h (fun _ _ e => w_X6_owesAll (Nat.le_refl 1) e) (fun _ _ e => t_X6_owesAll e) (Nat.le_trans (Nat.le_of_ble_eq_true rfl) hd) (Nat.le_of_ble_eq_true rfl) dX6_personIs_64 (fun v8 σ7 h => ?_)
      exact r_iret (pc := 67) C rfl dX6_personIs_67 h E
    rw [if_neg c2_11] at h
    by_cases c3_11 : x2 = 3
    · rw [if_pos c3_11] at h
      refine r_tswE (pc := 11) (tgt := 68) C dX6_personIs_11 c3_11 (by decide) (by decide) rfl (by decide) ?_
      refine r_aload_n (pc := 68) (i := 0) C dX6_personIs_68 rfl rfl ?_
      refine r_iload_n (pc := 69) (i := 1) C dX6_personIs_69 rfl rfl ?_
      refine r_callVI (pc := 70) (As := [.int x1]) (st := []) C cs_X6_349_X6_getsAll h (fun _ _ e => w_X6_getsAll (Nat.le_refl 1) e) (fun _ _ e => t_X6_getsAll e) (Nat.le_trans (Nat.le_of_ble_eq_true rfl) hd) (Nat.le_of_ble_eq_true rfl) dX6_personIs_70 (fun v10 σ9 h => ?_)
      exact r_iret (pc := 73) C rfl dX6_personIs_73 h E
    rw [if_neg c3_11] at h
    by_cases c4_11 : x2 = 4
    · rw [if_pos c4_11] at h
      refine r_tswE (pc := 11) (tgt := 74) C dX6_personIs_11 c4_11 (by decide) (by decide) rfl (by decide) ?_
      refine r_aload_n (pc := 74) (i := 0) C dX6_personIs_74 rfl rfl ?_
      refine r_getP (pc := 75) C fd_X6_7 rfl dX6_personIs_75 h (fun p11 h => ?_)
      refine r_bipush (pc := 78) (v := 100) C dX6_personIs_78 (by decide) ?_
      refine r_iload_n (pc := 80) (i := 1) C dX6_personIs_80 rfl rfl ?_
      refine r_iadd (pc := 81) C dX6_personIs_81 ?_
      refine r_iald (pc := 82) C dX6_personIs_82 h (fun v12 h => ?_)
      exact r_iret (pc := 83) C rfl dX6_personIs_83 h E
    rw [if_neg c4_11] at h
    by_cases c5_11 : x2 = 5
    · rw [if_pos c5_11] at h
      refine r_tswE (pc := 11) (tgt := 84) C dX6_personIs_11 c5_11 (by decide) (by decide) rfl (by decide) ?_
      refine r_aload_n (pc := 84) (i := 0) C dX6_personIs_84 rfl rfl ?_
      refine r_iload_n (pc := 85) (i := 1) C dX6_personIs_85 rfl rfl ?_
      refine r_callVI (pc := 86) (As := [.int x1]) (st := []) C cs_X6_271_X6_chalksOf h (fun _ _ e => w_X6_chalksOf (Nat.le_refl 0) e) (fun _ _ e => t_X6_chalksOf e) (Nat.le_trans (Nat.le_of_ble_eq_true rfl) hd) (Nat.le_of_ble_eq_true rfl) dX6_personIs_86 (fun v14 σ13 h => ?_)
      exact r_iret (pc := 89) C rfl dX6_personIs_89 h E
    rw [if_neg c5_11] at h
    refine r_dfl (st := []) (tgt := 90) (pc := 11) ?_ (fun hD => ?_)
    · refine r_iconst (pc := 90) (v := (-1)) C dX6_personIs_90 (by decide) ?_
      exact r_iret (pc := 91) C rfl dX6_personIs_91 h E
    have n0_11 := tsw_ne (i := 0) c0_11 (by decide)
    have n1_11 := tsw_ne (i := 1) c1_11 (by decide)
    have n2_11 := tsw_ne (i := 2) c2_11 (by decide)
    have n3_11 := tsw_ne (i := 3) c3_11 (by decide)
    have n4_11 := tsw_ne (i := 4) c4_11 (by decide)
    have n5_11 := tsw_ne (i := 5) c5_11 (by decide)
    exact r_tswO (pc := 11) (tgt := 90) C dX6_personIs_11 (by omega) (by decide) hD
  · refine r_iconst (pc := 8) (v := (-1)) C dX6_personIs_8 (by decide) ?_
    exact r_iret (pc := 9) C rfl dX6_personIs_9 h E
theorem t_X6_personIs {F : Nat} {σ : MM} {a0 : Nat} {x1 : Int32} {x2 : Int32} {r : Int32 × MM} (h : g_X6_personIs F σ a0 x1 x2 = some r) : mT σ a0 = (5, 62) := by
  unfold g_X6_personIs at h
  exact (r_ck h).1
