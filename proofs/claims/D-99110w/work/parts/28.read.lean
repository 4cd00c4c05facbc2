set_option maxRecDepth 100000
theorem fd_X7_26 : xFg RX7 26 6 7 2 := ⟨_, rfl, rfl, by decide, by decide, in_X7, Or.inl q430⟩
theorem ft_X7_2 : xFt 6 2 .int false := ⟨_, rfl, by decide +kernel, rfl, rfl⟩
theorem fd_X7_29 : xFg RX7 29 0 22 7 := ⟨_, rfl, rfl, by decide, by decide, in_X0, Or.inr ⟨_, in_nest q319 rfl⟩⟩
def g_X7_here (F : Nat) (σ : MM) (a0 : Nat) : Option (Int32 × MM) := if mT σ a0 = (6, 7) then ((gI σ a0 6 7 2).bind fun v1 => (gI σ a0 6 7 0).bind fun v2 => if v1 < v2 then ((gP σ a0 6 7 6).bind fun p3 => (gP σ p3 0 22 7).bind fun p4 => (gI σ a0 6 7 2).bind fun v5 => (aI σ p4 21 v5).bind fun v6 => some ((v6 &&& 255), σ)) else (some (0, σ))) else none
theorem w_X7_here {B F : Nat} {d : Nat} {σ : MM} {a0 : Nat} {rf : Int32} {σf : MM} (hd : 0 ≤ d) (h : g_X7_here F σ a0 = some (rf, σf)) : xMA B yX7_here cX7_here 1 (some .int) d 0 0 [rv B a0] σ (some (.int rf)) σf := by
  refine xMA.of (by decide +kernel) (Nat.le_of_ble_eq_true rfl) (cat_rv cat_nil) (fun G C E => ?_)
  unfold g_X7_here at h
  obtain ⟨-, h⟩ := r_ck h
  refine r_aload_n (pc := 0) (i := 0) C dX7_here_0 rfl rfl ?_
  refine r_getI (pc := 1) C fd_X7_26 rfl dX7_here_1 h (fun v1 h => ?_)
  refine r_aload_n (pc := 4) (i := 0) C dX7_here_4 rfl rfl ?_
  refine r_getI (pc := 5) C fd_X7_22 rfl dX7_here_5 h (fun v2 h => ?_)
  refine r_icmpge (pc := 8) (tgt := 30) C dX7_here_8 (by decide) h (fun h => ?_) (fun h => ?_)
  · refine r_iconst (pc := 30) (v := 0) C dX7_here_30 (by decide) ?_
    exact r_iret (pc := 31) C rfl dX7_here_31 h E
  · refine r_aload_n (pc := 11) (i := 0) C dX7_here_11 rfl rfl ?_
    refine r_getP (pc := 12) C fd_X7_3 rfl dX7_here_12 h (fun p3 h => ?_)
    refine r_getP (pc := 15) C fd_X7_29 rfl dX7_here_15 h (fun p4 h => ?_)
    refine r_aload_n (pc := 18) (i := 0) C dX7_here_18 rfl rfl ?_
    refine r_getI (pc := 19) C fd_X7_26 rfl dX7_here_19 h (fun v5 h => ?_)
    refine r_bald (pc := 22) C dX7_here_22 h (fun v6 h => ?_)
    refine r_sipush (pc := 23) (v := 255) C dX7_here_23 (by decide) ?_
    refine r_iand (pc := 26) C dX7_here_26 ?_
    refine r_goto (pc := 27) (tgt := 31) C dX7_here_27 (by decide) ?_
    exact r_iret (pc := 31) C rfl dX7_here_31 h E
theorem t_X7_here {F : Nat} {σ : MM} {a0 : Nat} {r : Int32 × MM} (h : g_X7_here F σ a0 = some r) : mT σ a0 = (6, 7) := by
  unfold g_X7_here at h
  exact (r_ck h).1
theorem fd_X7_33 : xFg RX7 33 6 7 4 := ⟨_, rfl, rfl, by decide, by decide, in_X7, Or.inl q432⟩
theorem ft_X7_4 : xFt 6 4 .int false := ⟨_, rfl, by decide +kernel, rfl, rfl⟩
def g_X7_isGood (F : Nat) (σ : MM) (a0 : Nat) : Option (Int32 × MM) := if mT σ a0 = (6, 7) then ((gI σ a0 6 7 4).bind fun v1 => if v1 = 0 then (some (1, σ)) else (some (0, σ))) else none
theorem w_X7_isGood {B F : Nat} {d : Nat} {σ : MM} {a0 : Nat} {rf : Int32} {σf : MM} (hd : 0 ≤ d) (h : g_X7_isGood F σ a0 = some (rf, σf)) : xMA B yX7_isGood cX7_isGood 1 (some .boolean) d 0 0 [rv B a0] σ (some (.int rf)) σf := by
  refine xMA.of (by decide +kernel) (Nat.le_of_ble_eq_true rfl) (cat_rv cat_nil) (fun G C E => ?_)
  unfold g_X7_isGood at h
  obtain ⟨-, h⟩ := r_ck h
  refine r_aload_n (pc := 0) (i := 0) C dX7_isGood_0 rfl rfl ?_
  refine r_getI (pc := 1) C fd_X7_33 rfl dX7_isGood_1 h (fun v1 h => ?_)
  refine r_ifne (pc := 4) (tgt := 11) C dX7_isGood_4 (by decide) h (fun h => ?_) (fun h => ?_)
  · refine r_iconst (pc := 11) (v := 0) C dX7_isGood_11 (by decide) ?_
    exact r_zretL (pc := 12) C rfl dX7_isGood_12 (Or.inl rfl) h E
  · refine r_iconst (pc := 7) (v := 1) C dX7_isGood_7 (by decide) ?_
    refine r_goto (pc := 8) (tgt := 12) C dX7_isGood_8 (by decide) ?_
    exact r_zretL (pc := 12) C rfl dX7_isGood_12 (Or.inr rfl) h E
theorem t_X7_isGood {F : Nat} {σ : MM} {a0 : Nat} {r : Int32 × MM} (h : g_X7_isGood F σ a0 = some r) : mT σ a0 = (6, 7) := by
  unfold g_X7_isGood at h
  exact (r_ck h).1
theorem fd_X7_36 : xFg RX7 36 6 7 5 := ⟨_, rfl, rfl, by decide, by decide, in_X7, Or.inl q433⟩
theorem ft_X7_5 : xFt 6 5 .int false := ⟨_, rfl, by decide +kernel, rfl, rfl⟩
def g_X7_bad (F : Nat) (σ : MM) (a0 : Nat) (x1 : Int32) (x2 : Int32) : Option (MM) := if mT σ a0 = (6, 7) then ((gI σ a0 6 7 4).bind fun v1 => if 0 < v1 then (some σ) else ((pI σ a0 6 7 4 x1).bind fun σ2 => (pI σ2 a0 6 7 5 x2).bind fun σ3 => some σ3)) else none
theorem w_X7_bad {B F : Nat} {d : Nat} {σ : MM} {a0 : Nat} {x1 : Int32} {x2 : Int32} {σf : MM} (hd : 0 ≤ d) (h : g_X7_bad F σ a0 x1 x2 = some σf) : xMA B yX7_bad cX7_bad 3 none d 0 0 [rv B a0, .int x1, .int x2] σ none σf := by
  refine xMA.of (by decide +kernel) (Nat.le_of_ble_eq_true rfl) (cat_rv (cat_int (cat_int cat_nil))) (fun G C E => ?_)
  unfold g_X7_bad at h
  obtain ⟨-, h⟩ := r_ck h
  refine r_aload_n (pc := 0) (i := 0) C dX7_bad_0 rfl rfl ?_
  refine r_getI (pc := 1) C fd_X7_33 rfl dX7_bad_1 h (fun v1 h => ?_)
  refine r_ifle (pc := 4) (tgt := 8) C dX7_bad_4 (by decide) h (fun h => ?_) (fun h => ?_)
  · refine r_aload_n (pc := 8) (i := 0) C dX7_bad_8 rfl rfl ?_
    refine r_iload_n (pc := 9) (i := 1) C dX7_bad_9 rfl rfl ?_
    refine r_putI (pc := 10) C fd_X7_33 ft_X7_4 dX7_bad_10 h (fun σ2 h => ?_)
    refine r_aload_n (pc := 13) (i := 0) C dX7_bad_13 rfl rfl ?_
    refine r_iload_n (pc := 14) (i := 2) C dX7_bad_14 rfl rfl ?_
    refine r_putI (pc := 15) C fd_X7_36 ft_X7_5 dX7_bad_15 h (fun σ3 h => ?_)
    exact r_vret (pc := 18) C rfl dX7_bad_18 h E
  · exact r_vret (pc := 7) C rfl dX7_bad_7 h E
theorem t_X7_bad {F : Nat} {σ : MM} {a0 : Nat} {x1 : Int32} {x2 : Int32} {r : MM} (h : g_X7_bad F σ a0 x1 x2 = some r) : mT σ a0 = (6, 7) := by
  unfold g_X7_bad at h
  exact (r_ck h).1
theorem yd_X7_here : xYd yX7_here 0 := ⟨by decide +kernel, by decide +kernel, by decide +kernel⟩
theorem cs_X7_39_X7_here : xCV RX7 39 yX7_here cX7_here 1 (some .int) 6 7 0 := ⟨by decide, by decide, _, rfl, yd_X7_here, Or.inl ⟨rfl, lw_V q462 q464 qs4 q123 q465⟩⟩
def g_X7_seesDigit (F : Nat) (σ : MM) (a0 : Nat) : Option (Int32 × MM) := if mT σ a0 = (6, 7) then (bq (g_X7_here F σ a0) fun v2 σ1 => if v2 < 48 then (some (0, σ1)) else (bq (g_X7_here F σ1 a0) fun v4 σ3 => if 57 < v4 then (some (0, σ3)) else (some (1, σ3)))) else none
theorem w_X7_seesDigit {B F : Nat} {d : Nat} {σ : MM} {a0 : Nat} {rf : Int32} {σf : MM} (hd : 1 ≤ d) (h : g_X7_seesDigit F σ a0 = some (rf, σf)) : xMA B yX7_seesDigit cX7_seesDigit 1 (some .boolean) d 0 0 [rv B a0] σ (some (.int rf)) σf := by
  refine xMA.of (by decide +kernel) (Nat.le_of_ble_eq_true rfl) (cat_rv cat_nil) (fun G C E => ?_)
  unfold g_X7_seesDigit at h
  obtain ⟨-, h⟩ := r_ck h
  refine r_aload_n (pc := 0) (i := 0) C dX7_seesDigit_0 rfl rfl ?_
  refine r_callVI (pc := 1) (As := []) (st := []) C cs_X7_39_X7_here h (fun _ _ e => w_X7_here (Nat.le_refl 0) e) (fun _ _ e => t_X7_here e) (Nat.le_trans (Nat.le_of_ble_eq_true rfl) hd) (Nat.le_of_ble_eq_true rfl) dX7_seesDigit_1 (fun v2 σ1 h => ?_)
  refine r_bipush (pc := 4) (v := 48) C dX7_seesDigit_4 (by decide) ?_
  refine r_icmplt (pc := 6) (tgt := 22) C dX7_seesDigit_6 (by decide) h (fun h => ?_) (fun h => ?_)
  · refine r_iconst (pc := 22) (v := 0) C dX7_seesDigit_22 (by decide) ?_
    exact r_zretL (pc := 23) C rfl dX7_seesDigit_23 (Or.inl rfl) h E
  · refine r_aload_n (pc := 9) (i := 0) C dX7_seesDigit_9 rfl rfl ?_
    refine r_callVI (pc := 10) (As := []) (st := []) C cs_X7_39_X7_here h (fun _ _ e => w_X7_here (Nat.le_refl 0) e) (fun _ _ e => t_X7_here e) (Nat.le_trans (Nat.le_of_ble_eq_true rfl) hd) (Nat.le_of_ble_eq_true rfl) dX7_seesDigit_10 (fun v4 σ3 h => ?_)
    refine r_bipush (pc := 13) (v := 57) C dX7_seesDigit_13 (by decide) ?_
    refine r_icmpgt (pc := 15) (tgt := 22) C dX7_seesDigit_15 (by decide) h (fun h => ?_) (fun h => ?_)
    · refine r_iconst (pc := 22) (v := 0) C dX7_seesDigit_22 (by decide) ?_
      exact r_zretL (pc := 23) C rfl dX7_seesDigit_23 (Or.inl rfl) h E
    · refine r_iconst (pc := 18) (v := 1) C dX7_seesDigit_18 (by decide) ?_
      refine r_goto (pc := 19) (tgt := 23) C dX7_seesDigit_19 (by decide) ?_
      exact r_zretL (pc := 23) C rfl dX7_seesDigit_23 (Or.inr rfl) h E
theorem t_X7_seesDigit {F : Nat} {σ : MM} {a0 : Nat} {r : Int32 × MM} (h : g_X7_seesDigit F σ a0 = some r) : mT σ a0 = (6, 7) := by
  unfold g_X7_seesDigit at h
  exact (r_ck h).1
theorem yd_X7_isGood : xYd yX7_isGood 0 := ⟨by decide +kernel, by decide +kernel, by decide +kernel⟩
theorem cs_X7_43_X7_isGood : xCV RX7 43 yX7_isGood cX7_isGood 1 (some .boolean) 6 7 0 := ⟨by decide, by decide, _, rfl, yd_X7_isGood, Or.inl ⟨rfl, lw_V q454 q456 qs2 q123 q457⟩⟩
theorem yd_X7_seesDigit : xYd yX7_seesDigit 0 := ⟨by decide +kernel, by decide +kernel, by decide +kernel⟩
theorem cs_X7_47_X7_seesDigit : xCV RX7 47 yX7_seesDigit cX7_seesDigit 1 (some .boolean) 6 7 0 := ⟨by decide, by decide, _, rfl, yd_X7_seesDigit, Or.inl ⟨rfl, lw_V q579 q581 qs11 q123 q582⟩⟩
theorem yd_X7_bad : xYd yX7_bad 2 := ⟨by decide +kernel, by decide +kernel, by decide +kernel⟩
theorem cs_X7_50_X7_bad : xCV RX7 50 yX7_bad cX7_bad 3 none 6 7 2 := ⟨by decide, by decide, _, rfl, yd_X7_bad, Or.inl ⟨rfl, lw_V q553 q555 qs5 q123 q556⟩⟩
def l_X7_number_7 (K : Int32 → MM → Option (Int32 × MM)) (F : Nat) (a0 : Nat) (x1 : Int32) : Nat → Int32 → MM → Option (Int32 × MM)
  | 0, _, _ => none
  | f + 1, z2, σ => bq (g_X7_isGood F σ a0) fun v3 σ2 => if v3 = 0 then (K z2 σ2) else (bq (g_X7_seesDigit F σ2 a0) fun v5 σ4 => if v5 = 0 then (K z2 σ4) else ((gI σ4 a0 6 7 2).bind fun v6 => jn (fun  (σ7 : MM) => bq (g_X7_here F σ7 a0) fun v10 σ9 => (gI σ9 a0 6 7 2).bind fun v11 => (pI σ9 a0 6 7 2 ((v11 + 1))).bind fun σ12 => l_X7_number_7 K F a0 x1 f ((((10 * z2) + v10) - 48)) σ12) (fun k8 => if v6 = (x1 + 5) then ((gI σ4 a0 6 7 2).bind fun v13 => (g_X7_bad F σ4 a0 2 v13).bind fun σ14 => k8 σ14) else (k8 σ4))))
def g_X7_number (F : Nat) (σ : MM) (a0 : Nat) : Option (Int32 × MM) := if mT σ a0 = (6, 7) then ((gI σ a0 6 7 2).bind fun v1 => l_X7_number_7 (fun (r2_16 : Int32) (σ15 : MM) => some (r2_16, σ15)) F a0 v1 F 0 σ) else none
theorem wl_X7_number_7 {B : Nat} {G : XG} {d : Nat} {rf : Int32} {σf : MM} (hd : 2 ≤ d) (C : xC B G yX7_number cX7_number 3 (some .int) d 0 0) (E : xEnd B G (some (.int rf)) σf 0 0) {K : Int32 → MM → Option (Int32 × MM)} {F : Nat} {a0 : Nat} {x1 : Int32} (hK : ∀ (q2 : Int32) (σ : MM), K q2 σ = some (rf, σf) → xV B G 0 0 σ 66 [(2, .int q2)] []) : ∀ (f : Nat) (z2 : Int32) (σ : MM), l_X7_number_7 K F a0 x1 f z2 σ = some (rf, σf) → xV B G 0 0 σ 7 [(0, rv B a0), (1, .int x1), (2, .int z2)] [] := by
  intro f
  induction f with
  | zero =>
    intro z2 σ h
    have h : none = some (rf, σf) := h
    cases h
  | succ f ih =>
    intro z2 σ h
    rw [l_X7_number_7.eq_2] at h
    refine r_aload_n (pc := 7) (i := 0) C dX7_number_7 rfl rfl ?_
    refine r_callVI (pc := 8) (As := []) (st := []) C cs_X7_43_X7_isGood h (fun _ _ e => w_X7_isGood (Nat.le_refl 0) e) (fun _ _ e => t_X7_isGood e) (Nat.le_trans (Nat.le_of_ble_eq_true rfl) hd) (Nat.le_of_ble_eq_true rfl) dX7_number_8 (fun v3 σ2 h => ?_)
    refine r_ifeq (pc := 11) (tgt := 66) C dX7_number_11 (by decide) h (fun h => ?_) (fun h => ?_)
    · refine r_pick (lv' := [(2, .int z2)]) [2] rfl ?_
      exact hK _ _ h
    · refine r_aload_n (pc := 14) (i := 0) C dX7_number_14 rfl rfl ?_
      refine r_callVI (pc := 15) (As := []) (st := []) C cs_X7_47_X7_seesDigit h (fun _ _ e => w_X7_seesDigit (Nat.le_refl 1) e) (fun _ _ e => t_X7_seesDigit e) (Nat.le_trans (Nat.le_of_ble_eq_true rfl) hd) (Nat.le_of_ble_eq_true rfl) dX7_number_15 (fun v5 σ4 h => ?_)
      refine r_ifeq (pc := 18) (tgt := 66) C dX7_number_18 (by decide) h (fun h => ?_) (fun h => ?_)
      · refine r_pick (lv' := [(2, .int z2)]) [2] rfl ?_
        exact hK _ _ h
      · refine r_aload_n (pc := 21) (i := 0) C dX7_number_21 rfl rfl ?_
        refine r_getI (pc := 22) C fd_X7_26 rfl dX7_number_22 h (fun v6 h => ?_)
        refine r_iload_n (pc := 25) (i := 1) C dX7_number_25 rfl rfl ?_
        refine r_iconst (pc := 26) (v := 5) C dX7_number_26 (by decide) ?_
        refine r_iadd (pc := 27) C dX7_number_27 ?_
        refine r_jn (fun k9 => ∀  (σ7 : MM), k9 σ7 = some (rf, σf) → xV B G 0 0 σ7 40 [(0, rv B a0), (1, .int x1), (2, .int z2)] []) h (fun  σ7 h => ?_) (fun k8 hk8 h => ?_)
        · refine r_bipush (pc := 40) (v := 10) C dX7_number_40 (by decide) ?_
          refine r_iload_n (pc := 42) (i := 2) C dX7_number_42 rfl rfl ?_
          refine r_imul (pc := 43) C dX7_number_43 ?_
          refine r_aload_n (pc := 44) (i := 0) C dX7_number_44 rfl rfl ?_
          refine r_callVI (pc := 45) (As := []) (st := [.int (10 * z2)]) C cs_X7_39_X7_here h (fun _ _ e => w_X7_here (Nat.le_refl 0) e) (fun _ _ e => t_X7_here e) (Nat.le_trans (Nat.le_of_ble_eq_true rfl) hd) (Nat.le_of_ble_eq_true rfl) dX7_number_45 (fun v10 σ9 h => ?_)
          refine r_iadd (pc := 48) C dX7_number_48 ?_
          refine r_bipush (pc := 49) (v := 48) C dX7_number_49 (by decide) ?_
          refine r_isub (pc := 51) C dX7_number_51 ?_
          refine r_istore_n (pc := 52) (i := 2) C dX7_number_52 rfl (by decide) ?_
          refine r_aload_n (pc := 53) (i := 0) C dX7_number_53 rfl rfl ?_
          refine r_dup (pc := 54) C dX7_number_54 ?_
          refine r_getI (pc := 55) C fd_X7_26 rfl dX7_number_55 h (fun v11 h => ?_)
          refine r_iconst (pc := 58) (v := 1) C dX7_number_58 (by decide) ?_
          refine r_iadd (pc := 59) C dX7_number_59 ?_
          refine r_putI (pc := 60) C fd_X7_26 ft_X7_2 dX7_number_60 h (fun σ12 h => ?_)
          refine r_goto (pc := 63) (tgt := 7) C dX7_number_63 (by decide) ?_
          refine r_pick (lv' := [(0, rv B a0), (1, .int x1), (2, .int (((10 * z2) + v10) - 48))]) [0, 1, 2] rfl ?_
          exact ih _ _ h
        · refine r_icmpne (pc := 28) (tgt := 40) C dX7_number_28 (by decide) h (fun h => ?_) (fun h => ?_)
          · refine r_pick (lv' := [(0, rv B a0), (1, .int x1), (2, .int z2)]) [0, 1, 2] rfl ?_
            exact hk8 _ h
          · refine r_aload_n (pc := 31) (i := 0) C dX7_number_31 rfl rfl ?_
            refine r_iconst (pc := 32) (v := 2) C dX7_number_32 (by decide) ?_
            refine r_aload_n (pc := 33) (i := 0) C dX7_number_33 rfl rfl ?_
            refine r_getI (pc := 34) C fd_X7_26 rfl dX7_number_34 h (fun v13 h => ?_)
            refine r_callVV (pc := 37) (As := [.int 2, .int v13]) (st := []) C cs_X7_50_X7_bad h (fun _ e => w_X7_bad (Nat.le_refl 0) e) (fun _ e => t_X7_bad e) (Nat.le_trans (Nat.le_of_ble_eq_true rfl) hd) (Nat.le_of_ble_eq_true rfl) dX7_number_37 (fun σ14 h => ?_)
            refine r_pick (lv' := [(0, rv B a0), (1, .int x1), (2, .int z2)]) [0, 1, 2] rfl ?_
            exact hk8 _ h
theorem w_X7_number {B F : Nat} {d : Nat} {σ : MM} {a0 : Nat} {rf : Int32} {σf : MM} (hd : 2 ≤ d) (h : g_X7_number F σ a0 = some (rf, σf)) : xMA B yX7_number cX7_number 3 (some .int) d 0 0 [rv B a0] σ (some (.int rf)) σf := by
  refine xMA.of (by decide +kernel) (Nat.le_of_ble_eq_true rfl) (cat_rv cat_nil) (fun G C E => ?_)
  unfold g_X7_number at h
  obtain ⟨-, h⟩ := r_ck h
  refine r_aload_n (pc := 0) (i := 0) C dX7_number_0 rfl rfl ?_
  refine r_getI (pc := 1) C fd_X7_26 rfl dX7_number_1 h (fun v1 h => ?_)
  refine r_istore_n (pc := 4) (i := 1) C dX7_number_4 rfl (by decide) ?_
  refine r_iconst (pc := 5) (v := 0) C dX7_number_5 (by decide) ?_
  refine r_istore_n (pc := 6) (i := 2) C dX7_number_6 rfl (by decide) ?_
  refine r_pick (lv' := [(0, rv B a0), (1, .int v1), (2, .int 0)]) [0, 1, 2] rfl ?_
  refine wl_X7_number_7 hd C E (fun r2_16 σ15 h => ?_) _ _ _ h
  refine r_iload_n (pc := 66) (i := 2) C dX7_number_66 rfl rfl ?_
  exact r_iret (pc := 67) C rfl dX7_number_67 h E
theorem t_X7_number {F : Nat} {σ : MM} {a0 : Nat} {r : Int32 × MM} (h : g_X7_number F σ a0 = some r) : mT σ a0 = (6, 7) := by
  unfold g_X7_number at h
  exact (r_ck h).1
def g_X7_must (F : Nat) (σ : MM) (a0 : Nat) (x1 : Int32) : Option (MM) := if mT σ a0 = (6, 7) then (bq (g_X7_here F σ a0) fun v2 σ1 => jn (fun (σ3 : MM) => (gI σ3 a0 6 7 2).bind fun v5 => (pI σ3 a0 6 7 2 ((v5 + 1))).bind fun σ6 => some σ6) (fun k4 => if v2 = x1 then (k4 σ1) else ((gI σ1 a0 6 7 2).bind fun v7 => (g_X7_bad F σ1 a0 1 v7).bind fun σ8 => k4 σ8))) else none
theorem w_X7_must {B F : Nat} {d : Nat} {σ : MM} {a0 : Nat} {x1 : Int32} {σf : MM} (hd : 1 ≤ d) (h : g_X7_must F σ a0 x1 = some σf) : xMA B yX7_must cX7_must 2 none d 0 0 [rv B a0, .int x1] σ none σf := by
  refine xMA.of (by decide +kernel) (Nat.le_of_ble_eq_true rfl) (cat_rv (cat_int cat_nil)) (fun G C E => ?_)
  unfold g_X7_must at h
  obtain ⟨-, h⟩ := r_ck h
  refine r_aload_n (pc := 0) (i := 0) C dX7_must_0 rfl rfl ?_
  refine r_callVI (pc := 1) (As := []) (st := []) C cs_X7_39_X7_here h (fun _ _ e => w_X7_here (Nat.le_refl 0) e) (fun _ _ e => t_X7_here e) (Nat.le_trans (Nat.le_of_ble_eq_true rfl) hd) (Nat.le_of_ble_eq_true rfl) dX7_must_1 (fun v2 σ1 h => ?_)
  refine r_iload_n (pc := 4) (i := 1) C dX7_must_4 rfl rfl ?_
  refine r_jn (fun k9 => ∀  (σ3 : MM), k9 σ3 = some σf → xV B G 0 0 σ3 17 [(0, rv B a0)] []) h (fun  σ3 h => ?_) (fun k4 hk4 h => ?_)
  · refine r_aload_n (pc := 17) (i := 0) C dX7_must_17 rfl rfl ?_
    refine r_dup (pc := 18) C dX7_must_18 ?_
    refine r_getI (pc := 19) C fd_X7_26 rfl dX7_must_19 h (fun v5 h => ?_)
    refine r_iconst (pc := 22) (v := 1) C dX7_must_22 (by decide) ?_
    refine r_iadd (pc := 23) C dX7_must_23 ?_
    refine r_putI (pc := 24) C fd_X7_26 ft_X7_2 dX7_must_24 h (fun σ6 h => ?_)
    exact r_vret (pc := 27) C rfl dX7_must_27 h E
  · refine r_icmpeq (pc := 5) (tgt := 17) C dX7_must_5 (by decide) h (fun h => ?_) (fun h => ?_)
    · refine r_pick (lv' := [(0, rv B a0)]) [0] rfl ?_
      exact hk4 _ h
    · refine r_aload_n (pc := 8) (i := 0) C dX7_must_8 rfl rfl ?_
      refine r_iconst (pc := 9) (v := 1) C dX7_must_9 (by decide) ?_
      refine r_aload_n (pc := 10) (i := 0) C dX7_must_10 rfl rfl ?_
      refine r_getI (pc := 11) C fd_X7_26 rfl dX7_must_11 h (fun v7 h => ?_)
      refine r_callVV (pc := 14) (As := [.int 1, .int v7]) (st := []) C cs_X7_50_X7_bad h (fun _ e => w_X7_bad (Nat.le_refl 0) e) (fun _ e => t_X7_bad e) (Nat.le_trans (Nat.le_of_ble_eq_true rfl) hd) (Nat.le_of_ble_eq_true rfl) dX7_must_14 (fun σ8 h => ?_)
      refine r_pick (lv' := [(0, rv B a0)]) [0] rfl ?_
      exact hk4 _ h
theorem t_X7_must {F : Nat} {σ : MM} {a0 : Nat} {x1 : Int32} {r : MM} (h : g_X7_must F σ a0 x1 = some r) : mT σ a0 = (6, 7) := by
  unfold g_X7_must at h
  exact (r_ck h).1
theorem fd_X7_54 : xFg RX7 54 6 7 3 := ⟨_, rfl, rfl, by decide, by decide, in_X7, Or.inl q431⟩
theorem ft_X7_3 : xFt 6 3 .int false := ⟨_, rfl, by decide +kernel, rfl, rfl⟩
def g_X7_opens (F : Nat) (σ : MM) (a0 : Nat) : Option (MM) := if mT σ a0 = (6, 7) then ((gI σ a0 6 7 3).bind fun v1 => jn (fun (σ2 : MM) => (gI σ2 a0 6 7 3).bind fun v4 => (pI σ2 a0 6 7 3 ((v4 + 1))).bind fun σ5 => (gI σ5 a0 6 7 2).bind fun v6 => (pI σ5 a0 6 7 2 ((v6 + 1))).bind fun σ7 => some σ7) (fun k3 => if v1 = 6 then ((gI σ a0 6 7 2).bind fun v8 => (g_X7_bad F σ a0 5 v8).bind fun σ9 => k3 σ9) else (k3 σ))) else none
theorem w_X7_opens {B F : Nat} {d : Nat} {σ : MM} {a0 : Nat} {σf : MM} (hd : 1 ≤ d) (h : g_X7_opens F σ a0 = some σf) : xMA B yX7_opens cX7_opens 1 none d 0 0 [rv B a0] σ none σf := by
  refine xMA.of (by decide +kernel) (Nat.le_of_ble_eq_true rfl) (cat_rv cat_nil) (fun G C E => ?_)
  unfold g_X7_opens at h
  obtain ⟨-, h⟩ := r_ck h
  refine r_aload_n (pc := 0) (i := 0) C dX7_opens_0 rfl rfl ?_
  refine r_getI (pc := 1) C fd_X7_54 rfl dX7_opens_1 h (fun v1 h => ?_)
  refine r_bipush (pc := 4) (v := 6) C dX7_opens_4 (by decide) ?_
  refine r_jn (fun k9 => ∀  (σ2 : MM), k9 σ2 = some σf → xV B G 0 0 σ2 18 [(0, rv B a0)] []) h (fun  σ2 h => ?_) (fun k3 hk3 h => ?_)
  · refine r_aload_n (pc := 18) (i := 0) C dX7_opens_18 rfl rfl ?_
    refine r_dup (pc := 19) C dX7_opens_19 ?_
    refine r_getI (pc := 20) C fd_X7_54 rfl dX7_opens_20 h (fun v4 h => ?_)
    refine r_iconst (pc := 23) (v := 1) C dX7_opens_23 (by decide) ?_
    refine r_iadd (pc := 24) C dX7_opens_24 ?_
    refine r_putI (pc := 25) C fd_X7_54 ft_X7_3 dX7_opens_25 h (fun σ5 h => ?_)
    refine r_aload_n (pc := 28) (i := 0) C dX7_opens_28 rfl rfl ?_
    refine r_dup (pc := 29) C dX7_opens_29 ?_
    refine r_getI (pc := 30) C fd_X7_26 rfl dX7_opens_30 h (fun v6 h => ?_)
    refine r_iconst (pc := 33) (v := 1) C dX7_opens_33 (by decide) ?_
    refine r_iadd (pc := 34) C dX7_opens_34 ?_
    refine r_putI (pc := 35) C fd_X7_26 ft_X7_2 dX7_opens_35 h (fun σ7 h => ?_)
    exact r_vret (pc := 38) C rfl dX7_opens_38 h E
  · refine r_icmpne (pc := 6) (tgt := 18) C dX7_opens_6 (by decide) h (fun h => ?_) (fun h => ?_)
    · refine r_pick (lv' := [(0, rv B a0)]) [0] rfl ?_
      exact hk3 _ h
    · refine r_aload_n (pc := 9) (i := 0) C dX7_opens_9 rfl rfl ?_
      refine r_iconst (pc := 10) (v := 5) C dX7_opens_10 (by decide) ?_
      refine r_aload_n (pc := 11) (i := 0) C dX7_opens_11 rfl rfl ?_
      refine r_getI (pc := 12) C fd_X7_26 rfl dX7_opens_12 h (fun v8 h => ?_)
      refine r_callVV (pc := 15) (As := [.int 5, .int v8]) (st := []) C cs_X7_50_X7_bad h (fun _ e => w_X7_bad (Nat.le_refl 0) e) (fun _ e => t_X7_bad e) (Nat.le_trans (Nat.le_of_ble_eq_true rfl) hd) (Nat.le_of_ble_eq_true rfl) dX7_opens_15 (fun σ9 h => ?_)
      refine r_pick (lv' := [(0, rv B a0)]) [0] rfl ?_
      exact hk3 _ h
theorem t_X7_opens {F : Nat} {σ : MM} {a0 : Nat} {r : MM} (h : g_X7_opens F σ a0 = some r) : mT σ a0 = (6, 7) := by
  unfold g_X7_opens at h
  exact (r_ck h).1
theorem xcl_X11 : xCl 9 1 RX11 := classCl _ rfl rfl rfl (by decide) in_X11 tyX11_ok (by decide +kernel)
theorem yd_X11_init : xYd yX11_init 1 := ⟨by decide +kernel, by decide +kernel, by decide +kernel⟩
theorem cs_X7_85_X11_init : xCI RX7 85 yX11_init cX11_init 2 1 := ⟨by decide, rfl, yd_X11_init, lw_meth q605, q133, q604, Or.inl q603⟩
theorem xcl_X10 : xCl 8 1 RX10 := classCl _ rfl rfl rfl (by decide) in_X10 tyX10_ok (by decide +kernel)
theorem yd_X7_number : xYd yX7_number 0 := ⟨by decide +kernel, by decide +kernel, by decide +kernel⟩
theorem cs_X7_70_X7_number : xCV RX7 70 yX7_number cX7_number 3 (some .int) 6 7 0 := ⟨by decide, by decide, _, rfl, yd_X7_number, Or.inl ⟨rfl, lw_V q585 q587 qs12 q123 q588⟩⟩
theorem yd_X10_init : xYd yX10_init 1 := ⟨by decide +kernel, by decide +kernel, by decide +kernel⟩
theorem cs_X7_73_X10_init : xCI RX7 73 yX10_init cX10_init 2 1 := ⟨by decide, rfl, yd_X10_init, lw_meth q591, q132, q590, Or.inl q589⟩
theorem yd_X7_opens : xYd yX7_opens 0 := ⟨by decide +kernel, by decide +kernel, by decide +kernel⟩
theorem cs_X7_57_X7_opens : xCV RX7 57 yX7_opens cX7_opens 1 none 6 7 0 := ⟨by decide, by decide, _, rfl, yd_X7_opens, Or.inl ⟨rfl, lw_V q571 q573 qs9 q123 q574⟩⟩
theorem yd_X7_must : xYd yX7_must 1 := ⟨by decide +kernel, by decide +kernel, by decide +kernel⟩
theorem cs_X7_64_X7_must : xCV RX7 64 yX7_must cX7_must 2 none 6 7 1 := ⟨by decide, by decide, _, rfl, yd_X7_must, Or.inl ⟨rfl, lw_V q575 q577 qs10 q123 q578⟩⟩
theorem yd_X7_sum : xYd yX7_sum 0 := ⟨by decide +kernel, by decide +kernel, by decide +kernel⟩
theorem cs_X7_60_X7_sum : xCV RX7 60 yX7_sum cX7_sum 4 (some (.object "OneCoin$Sum")) 6 7 0 := ⟨by decide, by decide, _, rfl, yd_X7_sum, Or.inl ⟨rfl, lw_V q557 q559 qs6 q123 q560⟩⟩
def s_X7_factor (F : Nat) (rec : Nat → Nat → MM → Nat → Option (Nat × MM × Nat × Nat)) (Lc Ls : Nat) (σ : MM) (a0 : Nat) : Option (Nat × MM × Nat × Nat) := if mT σ a0 = (6, 7) then (bq (g_X7_here F σ a0) fun v2 σ1 => if v2 = 91 then ((g_X7_opens F σ1 a0).bind fun σ26 => bq (g_X7_isGood F σ26 a0) fun v28 σ27 => jn (fun (w30 : Nat) (σ29 : MM) (c32 e33 : Nat) => bq (g_X7_isGood F σ29 a0) fun v35 σ34 => jn (fun (σ36 : MM) (c38 e39 : Nat) => (gI σ36 a0 6 7 3).bind fun v40 => (pI σ36 a0 6 7 3 ((v40 - 1))).bind fun σ41 => some (w30, σ41, c38, e39)) (fun k37 => if v35 = 0 then (k37 σ34 c32 e33) else ((g_X7_must F σ34 a0 93).bind fun σ42 => k37 σ42 c32 e33))) (fun k31 => if v28 = 0 then (k31 0 σ27 0 0) else (bc (Lc - 0) (Ls - 0) (rec (Lc - 0) (Ls - 0) σ27 a0) fun p44 σ43 c45 e46 => k31 p44 σ43 ((0 + c45)) ((0 + e46))))) else (bq (g_X7_seesDigit F σ1 a0) fun v4 σ3 => if v4 = 0 then (jn (fun (σ5 : MM) (c7 e8 : Nat) => (gI σ5 a0 6 7 2).bind fun v9 => (pI σ5 a0 6 7 2 ((v9 + 1))).bind fun σ10 => nwL (c7 + 1 ≤ Lc ∧ e8 + 1 ≤ Ls) σ10 (9, 1) fun p11 σ12 => (g_X11_init F σ12 p11 v2).bind fun σ13 => some (p11, σ13, (c7 + 1), (e8 + 1))) (fun k6 => jn (fun (σ14 : MM) (c16 e17 : Nat) => (gI σ14 a0 6 7 2).bind fun v18 => (g_X7_bad F σ14 a0 1 v18).bind fun σ19 => k6 σ19 c16 e17) (fun k15 => if v2 = 0 then (k15 σ3 0 0) else (if (sIx 0 v2) < 0 then (k15 σ3 0 0) else (k6 σ3 0 0))))) else (nwL (0 + 1 ≤ Lc ∧ 0 + 1 ≤ Ls) σ3 (8, 1) fun p21 σ22 => bq (g_X7_number F σ22 a0) fun v24 σ23 => (g_X10_init F σ23 p21 v24).bind fun σ25 => some (p21, σ25, (0 + 1), (0 + 1))))) else none
theorem ws_X7_factor {B F : Nat} {d : Nat} {σ : MM} {a0 : Nat} {rf : Nat} {σf : MM} {kf nf : Nat} {rec : Nat → Nat → MM → Nat → Option (Nat × MM × Nat × Nat)} {dr : Nat} (hrec : ∀ (Lc Ls : Nat) (σ : MM) (b0 v : Nat) (σ' : MM) (c s : Nat), rec Lc Ls σ b0 = some (v, σ', c, s) → xMD B yX7_sum cX7_sum 4 (some (.object "OneCoin$Sum")) dr Lc Ls c s [rv B b0] σ (some (rv B v)) σ' ∧ mT σ b0 = (6, 7)) {Lc Ls : Nat} (hd : dr + 1 ≤ d) (hd2 : 4 ≤ d) (h : s_X7_factor F rec Lc Ls σ a0 = some (rf, σf, kf, nf)) : xMD B yX7_factor cX7_factor 3 (some (.object "OneCoin$Sum")) d Lc Ls kf nf [rv B a0] σ (some (rv B rf)) σf := by
  refine xMD.of (by decide +kernel) (Nat.le_of_ble_eq_true rfl) (cat_rv cat_nil) (fun G C E => ?_)
  unfold s_X7_factor at h
  obtain ⟨-, h⟩ := r_ck h
  refine r_aload_n (pc := 0) (i := 0) C dX7_factor_0 rfl rfl ?_
  refine r_callVI (pc := 1) (As := []) (st := []) (hc := by omega) (hsl := by omega) C cs_X7_39_X7_here h (fun _ _ e => w_X7_here (Nat.le_refl 0) e) (fun _ _ e => t_X7_here e) (by omega) (Nat.le_of_ble_eq_true rfl) dX7_factor_1 (fun v2 σ1 h => ?_)
  refine r_istore_n (pc := 4) (i := 1) C dX7_factor_4 rfl (by decide) ?_
  refine r_iload_n (pc := 5) (i := 1) C dX7_factor_5 rfl rfl ?_
  refine r_bipush (pc := 6) (v := 91) C dX7_factor_6 (by decide) ?_
  refine r_icmpne (pc := 8) (tgt := 56) C dX7_factor_8 (by decide) h (fun h => ?_) (fun h => ?_)
  · refine r_aload_n (pc := 56) (i := 0) C dX7_factor_56 rfl rfl ?_
    refine r_callVI (pc := 57) (As := []) (st := []) (hc := by omega) (hsl := by omega) C cs_X7_47_X7_seesDigit h (fun _ _ e => w_X7_seesDigit (Nat.le_refl 1) e) (fun _ _ e => t_X7_seesDigit e) (by omega) (Nat.le_of_ble_eq_true rfl) dX7_factor_57 (fun v4 σ3 h => ?_)
    refine r_ifeq (pc := 60) (tgt := 75) C dX7_factor_60 (by decide) h (fun h => ?_) (fun h => ?_)
    · refine r_iload_n (pc := 75) (i := 1) C dX7_factor_75 rfl rfl ?_
      refine r_jn (fun k9 => ∀  (σ5 : MM) (c7 e8 : Nat), c7 ≤ Lc → e8 ≤ Ls → k9 σ5 c7 e8 = some (rf, σf, kf, nf) → xV B G c7 e8 σ5 97 [(0, rv B a0), (1, .int v2)] []) h (fun  σ5 c7 e8 hkc7 hne8 h => ?_) (fun k6 hk6 h => ?_)
      · refine r_aload_n (pc := 97) (i := 0) C dX7_factor_97 rfl rfl ?_
        refine r_dup (pc := 98) C dX7_factor_98 ?_
        refine r_getI (pc := 99) C fd_X7_26 rfl dX7_factor_99 h (fun v9 h => ?_)
        refine r_iconst (pc := 102) (v := 1) C dX7_factor_102 (by decide) ?_
        refine r_iadd (pc := 103) C dX7_factor_103 ?_
        refine r_putI (pc := 104) C fd_X7_26 ft_X7_2 dX7_factor_104 h (fun σ10 h => ?_)
        refine r_newL (pc := 107) C xcl_X11 q601 q602 q133 dX7_factor_107 rfl rfl (fun ho => ho) h (fun p11 σ12 hop11 h => ?_)
        refine r_dup (pc := 110) C dX7_factor_110 ?_
        refine r_iload_n (pc := 111) (i := 1) C dX7_factor_111 rfl rfl ?_
        refine r_callI (pc := 112) (As := [.int v2]) (st := [rv B p11]) C cs_X7_85_X11_init h (fun _ e => w_X11_init (Nat.le_refl 2) e) (fun _ e => by rw [t_X11_init e]; decide) (by omega) (by omega) (by omega) rfl rfl (Nat.le_of_ble_eq_true rfl) dX7_factor_112 (fun σ13 h => ?_)
        exact r_aretD (pc := 115) C rfl dX7_factor_115 h E
      · refine r_jn (fun k9 => ∀  (σ14 : MM) (c16 e17 : Nat), c16 ≤ Lc → e17 ≤ Ls → k9 σ14 c16 e17 = some (rf, σf, kf, nf) → xV B G c16 e17 σ14 88 [(0, rv B a0), (1, .int v2)] []) h (fun  σ14 c16 e17 hkc16 hne17 h => ?_) (fun k15 hk15 h => ?_)
        · refine r_aload_n (pc := 88) (i := 0) C dX7_factor_88 rfl rfl ?_
          refine r_iconst (pc := 89) (v := 1) C dX7_factor_89 (by decide) ?_
          refine r_aload_n (pc := 90) (i := 0) C dX7_factor_90 rfl rfl ?_
          refine r_getI (pc := 91) C fd_X7_26 rfl dX7_factor_91 h (fun v18 h => ?_)
          refine r_callVV (pc := 94) (As := [.int 1, .int v18]) (st := []) (hc := by omega) (hsl := by omega) C cs_X7_50_X7_bad h (fun _ e => w_X7_bad (Nat.le_refl 0) e) (fun _ e => t_X7_bad e) (by omega) (Nat.le_of_ble_eq_true rfl) dX7_factor_94 (fun σ19 h => ?_)
          refine r_pick (lv' := [(0, rv B a0), (1, .int v2)]) [0, 1] rfl ?_
          exact hk6 _ _ _ (by omega) (by omega) h
        · refine r_ifeq (pc := 76) (tgt := 88) C dX7_factor_76 (by decide) h (fun h => ?_) (fun h => ?_)
          · refine r_pick (lv' := [(0, rv B a0), (1, .int v2)]) [0, 1] rfl ?_
            exact hk15 _ _ _ (by omega) (by omega) h
          · refine r_ldcs (pc := 79) (i := 0) C rfl (Or.inl ⟨rfl, rfl⟩) dX7_factor_79 ?_
            refine r_iload_n (pc := 81) (i := 1) C dX7_factor_81 rfl rfl ?_
            refine r_callX (pc := 82) (As := [.int v2]) (st := []) (i := 0) (by decide) C (m_indexOf 0 (by decide) v2) rfl rfl yd_J0_indexOf (lw_V q467 q468 q469 q124 q470) (by omega) (Nat.le_of_ble_eq_true rfl) (Nat.le_of_ble_eq_true rfl) dX7_factor_82 (by omega) (by omega) ?_
            refine r_ifge (pc := 85) (tgt := 97) C dX7_factor_85 (by decide) h (fun h => ?_) (fun h => ?_)
            · refine r_pick (lv' := [(0, rv B a0), (1, .int v2)]) [0, 1] rfl ?_
              exact hk6 _ _ _ (by omega) (by omega) h
            · refine r_pick (lv' := [(0, rv B a0), (1, .int v2)]) [0, 1] rfl ?_
              exact hk15 _ _ _ (by omega) (by omega) h
    · refine r_newL (pc := 63) C xcl_X10 q583 q584 q132 dX7_factor_63 rfl rfl (fun ho => ho) h (fun p21 σ22 hop21 h => ?_)
      refine r_dup (pc := 66) C dX7_factor_66 ?_
      refine r_aload_n (pc := 67) (i := 0) C dX7_factor_67 rfl rfl ?_
      refine r_callVI (pc := 68) (As := []) (st := [rv B p21, rv B p21]) (hc := by omega) (hsl := by omega) C cs_X7_70_X7_number h (fun _ _ e => w_X7_number (Nat.le_refl 2) e) (fun _ _ e => t_X7_number e) (by omega) (Nat.le_of_ble_eq_true rfl) dX7_factor_68 (fun v24 σ23 h => ?_)
      refine r_callI (pc := 71) (As := [.int v24]) (st := [rv B p21]) C cs_X7_73_X10_init h (fun _ e => w_X10_init (Nat.le_refl 2) e) (fun _ e => by rw [t_X10_init e]; decide) (by omega) (by omega) (by omega) rfl rfl (Nat.le_of_ble_eq_true rfl) dX7_factor_71 (fun σ25 h => ?_)
      exact r_aretD (pc := 74) C rfl dX7_factor_74 h E
  · refine r_aload_n (pc := 11) (i := 0) C dX7_factor_11 rfl rfl ?_
    refine r_callVV (pc := 12) (As := []) (st := []) (hc := by omega) (hsl := by omega) C cs_X7_57_X7_opens h (fun _ e => w_X7_opens (Nat.le_refl 1) e) (fun _ e => t_X7_opens e) (by omega) (Nat.le_of_ble_eq_true rfl) dX7_factor_12 (fun σ26 h => ?_)
    refine r_aload_n (pc := 15) (i := 0) C dX7_factor_15 rfl rfl ?_
    refine r_callVI (pc := 16) (As := []) (st := []) (hc := by omega) (hsl := by omega) C cs_X7_43_X7_isGood h (fun _ _ e => w_X7_isGood (Nat.le_refl 0) e) (fun _ _ e => t_X7_isGood e) (by omega) (Nat.le_of_ble_eq_true rfl) dX7_factor_16 (fun v28 σ27 h => ?_)
    refine r_jn (fun k9 => ∀ (w30 : Nat) (σ29 : MM) (c32 e33 : Nat), c32 ≤ Lc → e33 ≤ Ls → k9 w30 σ29 c32 e33 = some (rf, σf, kf, nf) → xV B G c32 e33 σ29 30 [(0, rv B a0)] [rv B w30]) h (fun w30 σ29 c32 e33 hkc32 hne33 h => ?_) (fun k31 hk31 h => ?_)
    · refine r_astore_n (pc := 30) (i := 2) C dX7_factor_30 rfl (by decide) ?_
      refine r_aload_n (pc := 31) (i := 0) C dX7_factor_31 rfl rfl ?_
      refine r_callVI (pc := 32) (As := []) (st := []) (hc := by omega) (hsl := by omega) C cs_X7_43_X7_isGood h (fun _ _ e => w_X7_isGood (Nat.le_refl 0) e) (fun _ _ e => t_X7_isGood e) (by omega) (Nat.le_of_ble_eq_true rfl) dX7_factor_32 (fun v35 σ34 h => ?_)
      refine r_jn (fun k9 => ∀  (σ36 : MM) (c38 e39 : Nat), c38 ≤ Lc → e39 ≤ Ls → k9 σ36 c38 e39 = some (rf, σf, kf, nf) → xV B G c38 e39 σ36 44 [(0, rv B a0), (2, rv B w30)] []) h (fun  σ36 c38 e39 hkc38 hne39 h => ?_) (fun k37 hk37 h => ?_)
      · refine r_aload_n (pc := 44) (i := 0) C dX7_factor_44 rfl rfl ?_
        refine r_dup (pc := 45) C dX7_factor_45 ?_
        refine r_getI (pc := 46) C fd_X7_54 rfl dX7_factor_46 h (fun v40 h => ?_)
        refine r_iconst (pc := 49) (v := 1) C dX7_factor_49 (by decide) ?_
        refine r_isub (pc := 50) C dX7_factor_50 ?_
        refine r_putI (pc := 51) C fd_X7_54 ft_X7_3 dX7_factor_51 h (fun σ41 h => ?_)
        refine r_aload_n (pc := 54) (i := 2) C dX7_factor_54 rfl rfl ?_
        exact r_aretD (pc := 55) C rfl dX7_factor_55 h E
      · refine r_ifeq (pc := 35) (tgt := 44) C dX7_factor_35 (by decide) h (fun h => ?_) (fun h => ?_)
        · refine r_pick (lv' := [(0, rv B a0), (2, rv B w30)]) [0, 2] rfl ?_
          exact hk37 _ _ _ (by omega) (by omega) h
        · refine r_aload_n (pc := 38) (i := 0) C dX7_factor_38 rfl rfl ?_
          refine r_bipush (pc := 39) (v := 93) C dX7_factor_39 (by decide) ?_
          refine r_callVV (pc := 41) (As := [.int 93]) (st := []) (hc := by omega) (hsl := by omega) C cs_X7_64_X7_must h (fun _ e => w_X7_must (Nat.le_refl 1) e) (fun _ e => t_X7_must e) (by omega) (Nat.le_of_ble_eq_true rfl) dX7_factor_41 (fun σ42 h => ?_)
          refine r_pick (lv' := [(0, rv B a0), (2, rv B w30)]) [0, 2] rfl ?_
          exact hk37 _ _ _ (by omega) (by omega) h
    · refine r_ifeq (pc := 19) (tgt := 29) C dX7_factor_19 (by decide) h (fun h => ?_) (fun h => ?_)
      · refine r_null (pc := 29) C dX7_factor_29 ?_
        refine r_pick (lv' := [(0, rv B a0)]) [0] rfl ?_
        exact hk31 _ _ _ _ (by omega) (by omega) h
      · refine r_aload_n (pc := 22) (i := 0) C dX7_factor_22 rfl rfl ?_
        refine r_callVDP (pc := 23) (As := []) (st := []) C cs_X7_60_X7_sum rfl (lw_V q557 q559 qs6 q123 q560) h (fun _ _ _ _ e => (hrec _ _ _ _ _ _ _ _ e).1) (fun _ _ _ _ e => (hrec _ _ _ _ _ _ _ _ e).2) (by omega) (Nat.le_of_ble_eq_true rfl) dX7_factor_23 (by omega) (by omega) (fun p44 σ43 c45 e46 hc45 he46 h => ?_)
        refine r_goto (pc := 26) (tgt := 30) C dX7_factor_26 (by decide) ?_
        refine r_pick (lv' := [(0, rv B a0)]) [0] rfl ?_
        exact hk31 _ _ _ _ (by omega) (by omega) h
theorem ts_X7_factor {F : Nat} {rec : Nat → Nat → MM → Nat → Option (Nat × MM × Nat × Nat)} {Lc Ls : Nat} {σ : MM} {a0 : Nat} {r : Nat × MM × Nat × Nat} (h : s_X7_factor F rec Lc Ls σ a0 = some r) : mT σ a0 = (6, 7) := by
  unfold s_X7_factor at h
  exact (r_ck h).1
theorem xcl_X9 : xCl 7 3 RX9 := classCl _ rfl rfl rfl (by decide) in_X9 tyX9_ok (by decide +kernel)
theorem yd_X7_factor : xYd yX7_factor 0 := ⟨by decide +kernel, by decide +kernel, by decide +kernel⟩
theorem cs_X7_88_X7_factor : xCV RX7 88 yX7_factor cX7_factor 3 (some (.object "OneCoin$Sum")) 6 7 0 := ⟨by decide, by decide, _, rfl, yd_X7_factor, Or.inl ⟨rfl, lw_V q567 q569 qs8 q123 q570⟩⟩
theorem yd_X9_init : xYd yX9_init 2 := ⟨by decide +kernel, by decide +kernel, by decide +kernel⟩
theorem cs_X7_91_X9_init : xCI RX7 91 yX9_init cX9_init 3 2 := ⟨by decide, rfl, yd_X9_init, lw_meth q613, q131, q612, Or.inl q611⟩
theorem fd_X7_94 : xFg RX7 94 7 3 2 := ⟨_, rfl, rfl, by decide, by decide, in_X9, Or.inr ⟨_, in_nest q618 rfl⟩⟩
def l_X7_product_15 (rec : Nat → Nat → MM → Nat → Option (Nat × MM × Nat × Nat)) (Lc Ls : Nat) (K : MM → Nat → Nat → Option (Nat × MM × Nat × Nat)) (F : Nat) (a0 : Nat) (a1 : Nat) : Nat → Nat → MM → Nat → Nat → Option (Nat × MM × Nat × Nat)
  | 0, _, _, _, _ => none
  | f + 1, b2, σ, k, n => bq (g_X7_isGood F σ a0) fun v9 σ8 => if v9 = 0 then (K σ8 k n) else (bq (g_X7_here F σ8 a0) fun v11 σ10 => jn (fun  (σ12 : MM) (c14 e15 : Nat) => bq (g_X7_here F σ12 a0) fun v17 σ16 => (gI σ16 a0 6 7 2).bind fun v18 => (pI σ16 a0 6 7 2 ((v18 + 1))).bind fun σ19 => nwL (c14 + 1 ≤ Lc ∧ e15 + 3 ≤ Ls) σ19 (7, 3) fun p20 σ21 => bc (Lc - (c14 + 1)) (Ls - (e15 + 3)) (s_X7_factor F rec (Lc - (c14 + 1)) (Ls - (e15 + 3)) σ21 a0) fun p23 σ22 c24 e25 => (g_X9_init F σ22 p20 v17 p23).bind fun σ26 => (pP σ26 b2 7 3 2 p20).bind fun σ27 => (gP σ27 b2 7 3 2).bind fun p28 => l_X7_product_15 rec Lc Ls K F a0 a1 f p28 σ27 (((c14 + 1) + c24)) (((e15 + 3) + e25))) (fun k13 => if v11 = 42 then (k13 σ10 k n) else (bq (g_X7_here F σ10 a0) fun v30 σ29 => if v30 = 47 then (k13 σ29 k n) else (bq (g_X7_here F σ29 a0) fun v32 σ31 => if v32 = 37 then (k13 σ31 k n) else (K σ31 k n)))))
def s_X7_product (F : Nat) (rec : Nat → Nat → MM → Nat → Option (Nat × MM × Nat × Nat)) (Lc Ls : Nat) (σ : MM) (a0 : Nat) : Option (Nat × MM × Nat × Nat) := if mT σ a0 = (6, 7) then (nwL (0 + 1 ≤ Lc ∧ 0 + 3 ≤ Ls) σ (7, 3) fun p1 σ2 => bc (Lc - (0 + 1)) (Ls - (0 + 3)) (s_X7_factor F rec (Lc - (0 + 1)) (Ls - (0 + 3)) σ2 a0) fun p4 σ3 c5 e6 => (g_X9_init F σ3 p1 0 p4).bind fun σ7 => l_X7_product_15 rec Lc Ls (fun (σ33 : MM) (c34 e35 : Nat) => some (p1, σ33, c34, e35)) F a0 p1 F p1 σ7 (((0 + 1) + c5)) (((0 + 3) + e6))) else none
theorem wl_X7_product_15 {B : Nat} {G : XG} {d : Nat} {rf : Nat} {σf : MM} {kf nf : Nat} {rec : Nat → Nat → MM → Nat → Option (Nat × MM × Nat × Nat)} {dr : Nat} (hrec : ∀ (Lc Ls : Nat) (σ : MM) (b0 v : Nat) (σ' : MM) (c s : Nat), rec Lc Ls σ b0 = some (v, σ', c, s) → xMD B yX7_sum cX7_sum 4 (some (.object "OneCoin$Sum")) dr Lc Ls c s [rv B b0] σ (some (rv B v)) σ' ∧ mT σ b0 = (6, 7)) {Lc Ls : Nat} (hd : dr + 2 ≤ d) (hd2 : 5 ≤ d) (C : xC B G yX7_product cX7_product 4 (some (.object "OneCoin$Sum")) d Lc Ls) (E : xEnd B G (some (rv B rf)) σf kf nf) {K : MM → Nat → Nat → Option (Nat × MM × Nat × Nat)} {F : Nat} {a0 : Nat} {a1 : Nat} (hK : ∀ (σ : MM) (k n : Nat), k ≤ Lc → n ≤ Ls → K σ k n = some (rf, σf, kf, nf) → xV B G k n σ 88 [(1, rv B a1)] []) : ∀ (f : Nat) (b2 : Nat) (σ : MM) (k n : Nat), k ≤ Lc → n ≤ Ls → l_X7_product_15 rec Lc Ls K F a0 a1 f b2 σ k n = some (rf, σf, kf, nf) → xV B G k n σ 15 [(0, rv B a0), (1, rv B a1), (2, rv B b2)] [] := by
  intro f
  induction f with
  | zero =>
    intro b2 σ k n hk hn h
    have h : none = some (rf, σf, kf, nf) := h
    cases h
  | succ f ih =>
    intro b2 σ k n hk hn h
    rw [l_X7_product_15.eq_2] at h
    refine r_aload_n (pc := 15) (i := 0) C dX7_product_15 rfl rfl ?_
    refine r_callVI (pc := 16) (As := []) (st := []) (hc := by omega) (hsl := by omega) C cs_X7_43_X7_isGood h (fun _ _ e => w_X7_isGood (Nat.le_refl 0) e) (fun _ _ e => t_X7_isGood e) (by omega) (Nat.le_of_ble_eq_true rfl) dX7_product_16 (fun v9 σ8 h => ?_)
    refine r_ifeq (pc := 19) (tgt := 88) C dX7_product_19 (by decide) h (fun h => ?_) (fun h => ?_)
    · refine r_pick (lv' := [(1, rv B a1)]) [1] rfl ?_
      exact hK _ _ _ (by omega) (by omega) h
    · refine r_aload_n (pc := 22) (i := 0) C dX7_product_22 rfl rfl ?_
      refine r_callVI (pc := 23) (As := []) (st := []) (hc := by omega) (hsl := by omega) C cs_X7_39_X7_here h (fun _ _ e => w_X7_here (Nat.le_refl 0) e) (fun _ _ e => t_X7_here e) (by omega) (Nat.le_of_ble_eq_true rfl) dX7_product_23 (fun v11 σ10 h => ?_)
      refine r_bipush (pc := 26) (v := 42) C dX7_product_26 (by decide) ?_
      refine r_jn (fun k9 => ∀  (σ12 : MM) (c14 e15 : Nat), c14 ≤ Lc → e15 ≤ Ls → k9 σ12 c14 e15 = some (rf, σf, kf, nf) → xV B G c14 e15 σ12 49 [(0, rv B a0), (1, rv B a1), (2, rv B b2)] []) h (fun  σ12 c14 e15 hkc14 hne15 h => ?_) (fun k13 hk13 h => ?_)
      · refine r_aload_n (pc := 49) (i := 0) C dX7_product_49 rfl rfl ?_
        refine r_callVI (pc := 50) (As := []) (st := []) (hc := by omega) (hsl := by omega) C cs_X7_39_X7_here h (fun _ _ e => w_X7_here (Nat.le_refl 0) e) (fun _ _ e => t_X7_here e) (by omega) (Nat.le_of_ble_eq_true rfl) dX7_product_50 (fun v17 σ16 h => ?_)
        refine r_istore_n (pc := 53) (i := 3) C dX7_product_53 rfl (by decide) ?_
        refine r_aload_n (pc := 54) (i := 0) C dX7_product_54 rfl rfl ?_
        refine r_dup (pc := 55) C dX7_product_55 ?_
        refine r_getI (pc := 56) C fd_X7_26 rfl dX7_product_56 h (fun v18 h => ?_)
        refine r_iconst (pc := 59) (v := 1) C dX7_product_59 (by decide) ?_
        refine r_iadd (pc := 60) C dX7_product_60 ?_
        refine r_putI (pc := 61) C fd_X7_26 ft_X7_2 dX7_product_61 h (fun σ19 h => ?_)
        refine r_aload_n (pc := 64) (i := 2) C dX7_product_64 rfl rfl ?_
        refine r_newL (pc := 65) C xcl_X9 q561 q562 q131 dX7_product_65 rfl rfl (fun ho => ho) h (fun p20 σ21 hop20 h => ?_)
        refine r_dup (pc := 68) C dX7_product_68 ?_
        refine r_iload_n (pc := 69) (i := 3) C dX7_product_69 rfl rfl ?_
        refine r_aload_n (pc := 70) (i := 0) C dX7_product_70 rfl rfl ?_
        refine r_callVDP (pc := 71) (As := []) (st := [.int v17, rv B p20, rv B p20, rv B b2]) C cs_X7_88_X7_factor rfl (lw_V q567 q569 qs8 q123 q570) h (fun _ _ _ _ e => ws_X7_factor (d := d - 1) hrec (by omega) (by omega) e) (fun _ _ _ _ e => ts_X7_factor e) (by omega) (Nat.le_of_ble_eq_true rfl) dX7_product_71 (by omega) (by omega) (fun p23 σ22 c24 e25 hc24 he25 h => ?_)
        refine r_callI (pc := 74) (As := [.int v17, rv B p23]) (st := [rv B p20, rv B b2]) C cs_X7_91_X9_init h (fun _ e => w_X9_init (Nat.le_refl 2) e) (fun _ e => by rw [t_X9_init e]; decide) (by omega) (by omega) (by omega) rfl rfl (Nat.le_of_ble_eq_true rfl) dX7_product_74 (fun σ26 h => ?_)
        refine r_putP (pc := 77) C fd_X7_94 ft_X9_2 dX7_product_77 h (fun σ27 h => ?_)
        refine r_aload_n (pc := 80) (i := 2) C dX7_product_80 rfl rfl ?_
        refine r_getP (pc := 81) C fd_X7_94 rfl dX7_product_81 h (fun p28 h => ?_)
        refine r_astore_n (pc := 84) (i := 2) C dX7_product_84 rfl (by decide) ?_
        refine r_goto (pc := 85) (tgt := 15) C dX7_product_85 (by decide) ?_
        refine r_pick (lv' := [(0, rv B a0), (1, rv B a1), (2, rv B p28)]) [0, 1, 2] rfl ?_
        exact ih _ _ _ _ (by omega) (by omega) h
      · refine r_icmpeq (pc := 28) (tgt := 49) C dX7_product_28 (by decide) h (fun h => ?_) (fun h => ?_)
        · refine r_pick (lv' := [(0, rv B a0), (1, rv B a1), (2, rv B b2)]) [0, 1, 2] rfl ?_
          exact hk13 _ _ _ (by omega) (by omega) h
        · refine r_aload_n (pc := 31) (i := 0) C dX7_product_31 rfl rfl ?_
          refine r_callVI (pc := 32) (As := []) (st := []) (hc := by omega) (hsl := by omega) C cs_X7_39_X7_here h (fun _ _ e => w_X7_here (Nat.le_refl 0) e) (fun _ _ e => t_X7_here e) (by omega) (Nat.le_of_ble_eq_true rfl) dX7_product_32 (fun v30 σ29 h => ?_)
          refine r_bipush (pc := 35) (v := 47) C dX7_product_35 (by decide) ?_
          refine r_icmpeq (pc := 37) (tgt := 49) C dX7_product_37 (by decide) h (fun h => ?_) (fun h => ?_)
          · refine r_pick (lv' := [(0, rv B a0), (1, rv B a1), (2, rv B b2)]) [0, 1, 2] rfl ?_
            exact hk13 _ _ _ (by omega) (by omega) h
          · refine r_aload_n (pc := 40) (i := 0) C dX7_product_40 rfl rfl ?_
            refine r_callVI (pc := 41) (As := []) (st := []) (hc := by omega) (hsl := by omega) C cs_X7_39_X7_here h (fun _ _ e => w_X7_here (Nat.le_refl 0) e) (fun _ _ e => t_X7_here e) (by omega) (Nat.le_of_ble_eq_true rfl) dX7_product_41 (fun v32 σ31 h => ?_)
            refine r_bipush (pc := 44) (v := 37) C dX7_product_44 (by decide) ?_
            refine r_icmpne (pc := 46) (tgt := 88) C dX7_product_46 (by decide) h (fun h => ?_) (fun h => ?_)
            · refine r_pick (lv' := [(1, rv B a1)]) [1] rfl ?_
              exact hK _ _ _ (by omega) (by omega) h
            · refine r_pick (lv' := [(0, rv B a0), (1, rv B a1), (2, rv B b2)]) [0, 1, 2] rfl ?_
              exact hk13 _ _ _ (by omega) (by omega) h
theorem ws_X7_product {B F : Nat} {d : Nat} {σ : MM} {a0 : Nat} {rf : Nat} {σf : MM} {kf nf : Nat} {rec : Nat → Nat → MM → Nat → Option (Nat × MM × Nat × Nat)} {dr : Nat} (hrec : ∀ (Lc Ls : Nat) (σ : MM) (b0 v : Nat) (σ' : MM) (c s : Nat), rec Lc Ls σ b0 = some (v, σ', c, s) → xMD B yX7_sum cX7_sum 4 (some (.object "OneCoin$Sum")) dr Lc Ls c s [rv B b0] σ (some (rv B v)) σ' ∧ mT σ b0 = (6, 7)) {Lc Ls : Nat} (hd : dr + 2 ≤ d) (hd2 : 5 ≤ d) (h : s_X7_product F rec Lc Ls σ a0 = some (rf, σf, kf, nf)) : xMD B yX7_product cX7_product 4 (some (.object "OneCoin$Sum")) d Lc Ls kf nf [rv B a0] σ (some (rv B rf)) σf := by
  refine xMD.of (by decide +kernel) (Nat.le_of_ble_eq_true rfl) (cat_rv cat_nil) (fun G C E => ?_)
  unfold s_X7_product at h
  obtain ⟨-, h⟩ := r_ck h
  refine r_newL (pc := 0) C xcl_X9 q561 q562 q131 dX7_product_0 rfl rfl (fun ho => ho) h (fun p1 σ2 hop1 h => ?_)
  refine r_dup (pc := 3) C dX7_product_3 ?_
  refine r_iconst (pc := 4) (v := 0) C dX7_product_4 (by decide) ?_
  refine r_aload_n (pc := 5) (i := 0) C dX7_product_5 rfl rfl ?_
  refine r_callVDP (pc := 6) (As := []) (st := [.int 0, rv B p1, rv B p1]) C cs_X7_88_X7_factor rfl (lw_V q567 q569 qs8 q123 q570) h (fun _ _ _ _ e => ws_X7_factor (d := d - 1) hrec (by omega) (by omega) e) (fun _ _ _ _ e => ts_X7_factor e) (by omega) (Nat.le_of_ble_eq_true rfl) dX7_product_6 (by omega) (by omega) (fun p4 σ3 c5 e6 hc5 he6 h => ?_)
  refine r_callI (pc := 9) (As := [.int 0, rv B p4]) (st := [rv B p1]) C cs_X7_91_X9_init h (fun _ e => w_X9_init (Nat.le_refl 2) e) (fun _ e => by rw [t_X9_init e]; decide) (by omega) (by omega) (by omega) rfl rfl (Nat.le_of_ble_eq_true rfl) dX7_product_9 (fun σ7 h => ?_)
  refine r_astore_n (pc := 12) (i := 1) C dX7_product_12 rfl (by decide) ?_
  refine r_aload_n (pc := 13) (i := 1) C dX7_product_13 rfl rfl ?_
  refine r_astore_n (pc := 14) (i := 2) C dX7_product_14 rfl (by decide) ?_
  refine r_pick (lv' := [(0, rv B a0), (1, rv B p1), (2, rv B p1)]) [0, 1, 2] rfl ?_
  refine wl_X7_product_15 hrec hd hd2 C E (fun  σ33 c34 e35 hkc34 hne35 h => ?_) _ _ _ _ _ (by omega) (by omega) h
  refine r_aload_n (pc := 88) (i := 1) C dX7_product_88 rfl rfl ?_
  exact r_aretD (pc := 89) C rfl dX7_product_89 h E
theorem ts_X7_product {F : Nat} {rec : Nat → Nat → MM → Nat → Option (Nat × MM × Nat × Nat)} {Lc Ls : Nat} {σ : MM} {a0 : Nat} {r : Nat × MM × Nat × Nat} (h : s_X7_product F rec Lc Ls σ a0 = some r) : mT σ a0 = (6, 7) := by
  unfold s_X7_product at h
  exact (r_ck h).1
theorem yd_X7_product : xYd yX7_product 0 := ⟨by decide +kernel, by decide +kernel, by decide +kernel⟩
theorem cs_X7_98_X7_product : xCV RX7 98 yX7_product cX7_product 4 (some (.object "OneCoin$Sum")) 6 7 0 := ⟨by decide, by decide, _, rfl, yd_X7_product, Or.inl ⟨rfl, lw_V q563 q565 qs7 q123 q566⟩⟩
def l_X7_sum_15 (rec : Nat → Nat → MM → Nat → Option (Nat × MM × Nat × Nat)) (Lc Ls : Nat) (K : MM → Nat → Nat → Option (Nat × MM × Nat × Nat)) (F : Nat) (a0 : Nat) (a1 : Nat) : Nat → Nat → MM → Nat → Nat → Option (Nat × MM × Nat × Nat)
  | 0, _, _, _, _ => none
  | f + 1, b2, σ, k, n => bq (g_X7_isGood F σ a0) fun v9 σ8 => if v9 = 0 then (K σ8 k n) else (bq (g_X7_here F σ8 a0) fun v11 σ10 => jn (fun  (σ12 : MM) (c14 e15 : Nat) => bq (g_X7_here F σ12 a0) fun v17 σ16 => (gI σ16 a0 6 7 2).bind fun v18 => (pI σ16 a0 6 7 2 ((v18 + 1))).bind fun σ19 => nwL (c14 + 1 ≤ Lc ∧ e15 + 3 ≤ Ls) σ19 (7, 3) fun p20 σ21 => bc (Lc - (c14 + 1)) (Ls - (e15 + 3)) (s_X7_product F rec (Lc - (c14 + 1)) (Ls - (e15 + 3)) σ21 a0) fun p23 σ22 c24 e25 => (g_X9_init F σ22 p20 v17 p23).bind fun σ26 => (pP σ26 b2 7 3 2 p20).bind fun σ27 => (gP σ27 b2 7 3 2).bind fun p28 => l_X7_sum_15 rec Lc Ls K F a0 a1 f p28 σ27 (((c14 + 1) + c24)) (((e15 + 3) + e25))) (fun k13 => if v11 = 43 then (k13 σ10 k n) else (bq (g_X7_here F σ10 a0) fun v30 σ29 => if v30 = 45 then (k13 σ29 k n) else (K σ29 k n))))
def s_X7_sum (F : Nat) (rec : Nat → Nat → MM → Nat → Option (Nat × MM × Nat × Nat)) (Lc Ls : Nat) (σ : MM) (a0 : Nat) : Option (Nat × MM × Nat × Nat) := if mT σ a0 = (6, 7) then (nwL (0 + 1 ≤ Lc ∧ 0 + 3 ≤ Ls) σ (7, 3) fun p1 σ2 => bc (Lc - (0 + 1)) (Ls - (0 + 3)) (s_X7_product F rec (Lc - (0 + 1)) (Ls - (0 + 3)) σ2 a0) fun p4 σ3 c5 e6 => (g_X9_init F σ3 p1 0 p4).bind fun σ7 => l_X7_sum_15 rec Lc Ls (fun (σ31 : MM) (c32 e33 : Nat) => some (p1, σ31, c32, e33)) F a0 p1 F p1 σ7 (((0 + 1) + c5)) (((0 + 3) + e6))) else none
theorem wl_X7_sum_15 {B : Nat} {G : XG} {d : Nat} {rf : Nat} {σf : MM} {kf nf : Nat} {rec : Nat → Nat → MM → Nat → Option (Nat × MM × Nat × Nat)} {dr : Nat} (hrec : ∀ (Lc Ls : Nat) (σ : MM) (b0 v : Nat) (σ' : MM) (c s : Nat), rec Lc Ls σ b0 = some (v, σ', c, s) → xMD B yX7_sum cX7_sum 4 (some (.object "OneCoin$Sum")) dr Lc Ls c s [rv B b0] σ (some (rv B v)) σ' ∧ mT σ b0 = (6, 7)) {Lc Ls : Nat} (hd : dr + 3 ≤ d) (hd2 : 6 ≤ d) (C : xC B G yX7_sum cX7_sum 4 (some (.object "OneCoin$Sum")) d Lc Ls) (E : xEnd B G (some (rv B rf)) σf kf nf) {K : MM → Nat → Nat → Option (Nat × MM × Nat × Nat)} {F : Nat} {a0 : Nat} {a1 : Nat} (hK : ∀ (σ : MM) (k n : Nat), k ≤ Lc → n ≤ Ls → K σ k n = some (rf, σf, kf, nf) → xV B G k n σ 79 [(1, rv B a1)] []) : ∀ (f : Nat) (b2 : Nat) (σ : MM) (k n : Nat), k ≤ Lc → n ≤ Ls → l_X7_sum_15 rec Lc Ls K F a0 a1 f b2 σ k n = some (rf, σf, kf, nf) → xV B G k n σ 15 [(0, rv B a0), (1, rv B a1), (2, rv B b2)] [] := by
  intro f
  induction f with
  | zero =>
    intro b2 σ k n hk hn h
    have h : none = some (rf, σf, kf, nf) := h
    cases h
  | succ f ih =>
    intro b2 σ k n hk hn h
    rw [l_X7_sum_15.eq_2] at h
    refine r_aload_n (pc := 15) (i := 0) C dX7_sum_15 rfl rfl ?_
    refine r_callVI (pc := 16) (As := []) (st := []) (hc := by omega) (hsl := by omega) C cs_X7_43_X7_isGood h (fun _ _ e => w_X7_isGood (Nat.le_refl 0) e) (fun _ _ e => t_X7_isGood e) (by omega) (Nat.le_of_ble_eq_true rfl) dX7_sum_16 (fun v9 σ8 h => ?_)
    refine r_ifeq (pc := 19) (tgt := 79) C dX7_sum_19 (by decide) h (fun h => ?_) (fun h => ?_)
    · refine r_pick (lv' := [(1, rv B a1)]) [1] rfl ?_
      exact hK _ _ _ (by omega) (by omega) h
    · refine r_aload_n (pc := 22) (i := 0) C dX7_sum_22 rfl rfl ?_
      refine r_callVI (pc := 23) (As := []) (st := []) (hc := by omega) (hsl := by omega) C cs_X7_39_X7_here h (fun _ _ e => w_X7_here (Nat.le_refl 0) e) (fun _ _ e => t_X7_here e) (by omega) (Nat.le_of_ble_eq_true rfl) dX7_sum_23 (fun v11 σ10 h => ?_)
      refine r_bipush (pc := 26) (v := 43) C dX7_sum_26 (by decide) ?_
      refine r_jn (fun k9 => ∀  (σ12 : MM) (c14 e15 : Nat), c14 ≤ Lc → e15 ≤ Ls → k9 σ12 c14 e15 = some (rf, σf, kf, nf) → xV B G c14 e15 σ12 40 [(0, rv B a0), (1, rv B a1), (2, rv B b2)] []) h (fun  σ12 c14 e15 hkc14 hne15 h => ?_) (fun k13 hk13 h => ?_)
      · refine r_aload_n (pc := 40) (i := 0) C dX7_sum_40 rfl rfl ?_
        refine r_callVI (pc := 41) (As := []) (st := []) (hc := by omega) (hsl := by omega) C cs_X7_39_X7_here h (fun _ _ e => w_X7_here (Nat.le_refl 0) e) (fun _ _ e => t_X7_here e) (by omega) (Nat.le_of_ble_eq_true rfl) dX7_sum_41 (fun v17 σ16 h => ?_)
        refine r_istore_n (pc := 44) (i := 3) C dX7_sum_44 rfl (by decide) ?_
        refine r_aload_n (pc := 45) (i := 0) C dX7_sum_45 rfl rfl ?_
        refine r_dup (pc := 46) C dX7_sum_46 ?_
        refine r_getI (pc := 47) C fd_X7_26 rfl dX7_sum_47 h (fun v18 h => ?_)
        refine r_iconst (pc := 50) (v := 1) C dX7_sum_50 (by decide) ?_
        refine r_iadd (pc := 51) C dX7_sum_51 ?_
        refine r_putI (pc := 52) C fd_X7_26 ft_X7_2 dX7_sum_52 h (fun σ19 h => ?_)
        refine r_aload_n (pc := 55) (i := 2) C dX7_sum_55 rfl rfl ?_
        refine r_newL (pc := 56) C xcl_X9 q561 q562 q131 dX7_sum_56 rfl rfl (fun ho => ho) h (fun p20 σ21 hop20 h => ?_)
        refine r_dup (pc := 59) C dX7_sum_59 ?_
        refine r_iload_n (pc := 60) (i := 3) C dX7_sum_60 rfl rfl ?_
        refine r_aload_n (pc := 61) (i := 0) C dX7_sum_61 rfl rfl ?_
        refine r_callVDP (pc := 62) (As := []) (st := [.int v17, rv B p20, rv B p20, rv B b2]) C cs_X7_98_X7_product rfl (lw_V q563 q565 qs7 q123 q566) h (fun _ _ _ _ e => ws_X7_product (d := d - 1) hrec (by omega) (by omega) e) (fun _ _ _ _ e => ts_X7_product e) (by omega) (Nat.le_of_ble_eq_true rfl) dX7_sum_62 (by omega) (by omega) (fun p23 σ22 c24 e25 hc24 he25 h => ?_)
        refine r_callI (pc := 65) (As := [.int v17, rv B p23]) (st := [rv B p20, rv B b2]) C cs_X7_91_X9_init h (fun _ e => w_X9_init (Nat.le_refl 2) e) (fun _ e => by rw [t_X9_init e]; decide) (by omega) (by omega) (by omega) rfl rfl (Nat.le_of_ble_eq_true rfl) dX7_sum_65 (fun σ26 h => ?_)
        refine r_putP (pc := 68) C fd_X7_94 ft_X9_2 dX7_sum_68 h (fun σ27 h => ?_)
        refine r_aload_n (pc := 71) (i := 2) C dX7_sum_71 rfl rfl ?_
        refine r_getP (pc := 72) C fd_X7_94 rfl dX7_sum_72 h (fun p28 h => ?_)
        refine r_astore_n (pc := 75) (i := 2) C dX7_sum_75 rfl (by decide) ?_
        refine r_goto (pc := 76) (tgt := 15) C dX7_sum_76 (by decide) ?_
        refine r_pick (lv' := [(0, rv B a0), (1, rv B a1), (2, rv B p28)]) [0, 1, 2] rfl ?_
        exact ih _ _ _ _ (by omega) (by omega) h
      · refine r_icmpeq (pc := 28) (tgt := 40) C dX7_sum_28 (by decide) h (fun h => ?_) (fun h => ?_)
        · refine r_pick (lv' := [(0, rv B a0), (1, rv B a1), (2, rv B b2)]) [0, 1, 2] rfl ?_
          exact hk13 _ _ _ (by omega) (by omega) h
        · refine r_aload_n (pc := 31) (i := 0) C dX7_sum_31 rfl rfl ?_
          refine r_callVI (pc := 32) (As := []) (st := []) (hc := by omega) (hsl := by omega) C cs_X7_39_X7_here h (fun _ _ e => w_X7_here (Nat.le_refl 0) e) (fun _ _ e => t_X7_here e) (by omega) (Nat.le_of_ble_eq_true rfl) dX7_sum_32 (fun v30 σ29 h => ?_)
          refine r_bipush (pc := 35) (v := 45) C dX7_sum_35 (by decide) ?_
          refine r_icmpne (pc := 37) (tgt := 79) C dX7_sum_37 (by decide) h (fun h => ?_) (fun h => ?_)
          · refine r_pick (lv' := [(1, rv B a1)]) [1] rfl ?_
            exact hK _ _ _ (by omega) (by omega) h
          · refine r_pick (lv' := [(0, rv B a0), (1, rv B a1), (2, rv B b2)]) [0, 1, 2] rfl ?_
            exact hk13 _ _ _ (by omega) (by omega) h
theorem ws_X7_sum {B F : Nat} {d : Nat} {σ : MM} {a0 : Nat} {rf : Nat} {σf : MM} {kf nf : Nat} {rec : Nat → Nat → MM → Nat → Option (Nat × MM × Nat × Nat)} {dr : Nat} (hrec : ∀ (Lc Ls : Nat) (σ : MM) (b0 v : Nat) (σ' : MM) (c s : Nat), rec Lc Ls σ b0 = some (v, σ', c, s) → xMD B yX7_sum cX7_sum 4 (some (.object "OneCoin$Sum")) dr Lc Ls c s [rv B b0] σ (some (rv B v)) σ' ∧ mT σ b0 = (6, 7)) {Lc Ls : Nat} (hd : dr + 3 ≤ d) (hd2 : 6 ≤ d) (h : s_X7_sum F rec Lc Ls σ a0 = some (rf, σf, kf, nf)) : xMD B yX7_sum cX7_sum 4 (some (.object "OneCoin$Sum")) d Lc Ls kf nf [rv B a0] σ (some (rv B rf)) σf := by
  refine xMD.of (by decide +kernel) (Nat.le_of_ble_eq_true rfl) (cat_rv cat_nil) (fun G C E => ?_)
  unfold s_X7_sum at h
  obtain ⟨-, h⟩ := r_ck h
  refine r_newL (pc := 0) C xcl_X9 q561 q562 q131 dX7_sum_0 rfl rfl (fun ho => ho) h (fun p1 σ2 hop1 h => ?_)
  refine r_dup (pc := 3) C dX7_sum_3 ?_
  refine r_iconst (pc := 4) (v := 0) C dX7_sum_4 (by decide) ?_
  refine r_aload_n (pc := 5) (i := 0) C dX7_sum_5 rfl rfl ?_
  refine r_callVDP (pc := 6) (As := []) (st := [.int 0, rv B p1, rv B p1]) C cs_X7_98_X7_product rfl (lw_V q563 q565 qs7 q123 q566) h (fun _ _ _ _ e => ws_X7_product (d := d - 1) hrec (by omega) (by omega) e) (fun _ _ _ _ e => ts_X7_product e) (by omega) (Nat.le_of_ble_eq_true rfl) dX7_sum_6 (by omega) (by omega) (fun p4 σ3 c5 e6 hc5 he6 h => ?_)
  refine r_callI (pc := 9) (As := [.int 0, rv B p4]) (st := [rv B p1]) C cs_X7_91_X9_init h (fun _ e => w_X9_init (Nat.le_refl 2) e) (fun _ e => by rw [t_X9_init e]; decide) (by omega) (by omega) (by omega) rfl rfl (Nat.le_of_ble_eq_true rfl) dX7_sum_9 (fun σ7 h => ?_)
  refine r_astore_n (pc := 12) (i := 1) C dX7_sum_12 rfl (by decide) ?_
  refine r_aload_n (pc := 13) (i := 1) C dX7_sum_13 rfl rfl ?_
  refine r_astore_n (pc := 14) (i := 2) C dX7_sum_14 rfl (by decide) ?_
  refine r_pick (lv' := [(0, rv B a0), (1, rv B p1), (2, rv B p1)]) [0, 1, 2] rfl ?_
  refine wl_X7_sum_15 hrec hd hd2 C E (fun  σ31 c32 e33 hkc32 hne33 h => ?_) _ _ _ _ _ (by omega) (by omega) h
  refine r_aload_n (pc := 79) (i := 1) C dX7_sum_79 rfl rfl ?_
  exact r_aretD (pc := 80) C rfl dX7_sum_80 h E
theorem ts_X7_sum {F : Nat} {rec : Nat → Nat → MM → Nat → Option (Nat × MM × Nat × Nat)} {Lc Ls : Nat} {σ : MM} {a0 : Nat} {r : Nat × MM × Nat × Nat} (h : s_X7_sum F rec Lc Ls σ a0 = some r) : mT σ a0 = (6, 7) := by
  unfold s_X7_sum at h
  exact (r_ck h).1
def r_X7_sum (F : Nat) : Nat → Nat → Nat → MM → Nat → Option (Nat × MM × Nat × Nat)
  | 0 => fun _ _ _ _ => none
  | f + 1 => fun Lc Ls σ a0 => s_X7_sum F (r_X7_sum F f) Lc Ls σ a0
theorem wr_X7_sum {B F : Nat} : ∀ (f d : Nat), 3 * f + 6 ≤ d → ∀ (Lc Ls : Nat) (σ : MM) (a0 v : Nat) (σ' : MM) (c s : Nat), r_X7_sum F f Lc Ls σ a0 = some (v, σ', c, s) → xMD B yX7_sum cX7_sum 4 (some (.object "OneCoin$Sum")) d Lc Ls c s [rv B a0] σ (some (rv B v)) σ' ∧ mT σ a0 = (6, 7) := by
  intro f
  induction f with
  | zero =>
    intro d hd Lc Ls σ a0 v σ' c s h
    have h : none = some (v, σ', c, s) := h
    cases h
  | succ f ih =>
    intro d hd Lc Ls σ a0 v σ' c s h
    have h : s_X7_sum F (r_X7_sum F f) Lc Ls σ a0 = some (v, σ', c, s) := h
    exact ⟨ws_X7_sum (dr := 3 * f + 6) (ih _ (Nat.le_refl _)) (by omega) (by omega) h, ts_X7_sum h⟩
def g_X7_sum (F : Nat) (Lc Ls : Nat) (σ : MM) (a0 : Nat) : Option (Nat × MM × Nat × Nat) := r_X7_sum F 64 Lc Ls σ a0
theorem w_X7_sum {B F d : Nat} {Lc Ls : Nat} {σ : MM} {a0 : Nat} {rf : Nat} {σf : MM} {kf nf : Nat} (hd : 198 ≤ d) (h : g_X7_sum F Lc Ls σ a0 = some (rf, σf, kf, nf)) : xMD B yX7_sum cX7_sum 4 (some (.object "OneCoin$Sum")) d Lc Ls kf nf [rv B a0] σ (some (rv B rf)) σf := (wr_X7_sum 64 d hd _ _ _ _ _ _ _ _ h).1
theorem t_X7_sum {F : Nat} {Lc Ls : Nat} {σ : MM} {a0 : Nat} {r : Nat × MM × Nat × Nat} (h : g_X7_sum F Lc Ls σ a0 = some r) : mT σ a0 = (6, 7) := ts_X7_sum (rec := r_X7_sum F 63) h
def g_X7_product (F : Nat) (Lc Ls : Nat) (σ : MM) (a0 : Nat) : Option (Nat × MM × Nat × Nat) := s_X7_product F (r_X7_sum F 64) Lc Ls σ a0
theorem w_X7_product {B F d : Nat} {Lc Ls : Nat} {σ : MM} {a0 : Nat} {rf : Nat} {σf : MM} {kf nf : Nat} (hd : 200 ≤ d) (h : g_X7_product F Lc Ls σ a0 = some (rf, σf, kf, nf)) : xMD B yX7_product cX7_product 4 (some (.object "OneCoin$Sum")) d Lc Ls kf nf [rv B a0] σ (some (rv B rf)) σf := ws_X7_product (dr := 198) (wr_X7_sum 64 _ (Nat.le_refl _)) (by omega) (by omega) h
theorem t_X7_product {F : Nat} {Lc Ls : Nat} {σ : MM} {a0 : Nat} {r : Nat × MM × Nat × Nat} (h : g_X7_product F Lc Ls σ a0 = some r) : mT σ a0 = (6, 7) := ts_X7_product h
def g_X7_factor (F : Nat) (Lc Ls : Nat) (σ : MM) (a0 : Nat) : Option (Nat × MM × Nat × Nat) := s_X7_factor F (r_X7_sum F 64) Lc Ls σ a0
theorem w_X7_factor {B F d : Nat} {Lc Ls : Nat} {σ : MM} {a0 : Nat} {rf : Nat} {σf : MM} {kf nf : Nat} (hd : 199 ≤ d) (h : g_X7_factor F Lc Ls σ a0 = some (rf, σf, kf, nf)) : xMD B yX7_factor cX7_factor 3 (some (.object "OneCoin$Sum")) d Lc Ls kf nf [rv B a0] σ (some (rv B rf)) σf := ws_X7_factor (dr := 198) (wr_X7_sum 64 _ (Nat.le_refl _)) (by omega) (by omega) h
theorem t_X7_factor {F : Nat} {Lc Ls : Nat} {σ : MM} {a0 : Nat} {r : Nat × MM × Nat × Nat} (h : g_X7_factor F Lc Ls σ a0 = some r) : mT σ a0 = (6, 7) := ts_X7_factor h
theorem xcl_X13 : xCl 10 3 RX13 := classCl _ rfl rfl rfl (by decide) in_X13 tyX13_ok (by decide +kernel)
theorem yd_X7_piece : xYd yX7_piece 0 := ⟨by decide +kernel, by decide +kernel, by decide +kernel⟩
theorem cs_X7_101_X7_piece : xCV RX7 101 yX7_piece cX7_piece 4 (some (.object "OneCoin$Condition")) 6 7 0 := ⟨by decide, by decide, _, rfl, yd_X7_piece, Or.inl ⟨rfl, lw_V q636 q638 qs15 q123 q639⟩⟩
theorem yd_X13_init : xYd yX13_init 2 := ⟨by decide +kernel, by decide +kernel, by decide +kernel⟩
theorem cs_X7_120_X13_init : xCI RX7 120 yX13_init cX13_init 3 2 := ⟨by decide, rfl, yd_X13_init, lw_meth q671, q135, q670, Or.inl q669⟩
theorem fd_X7_123 : xFg RX7 123 10 3 2 := ⟨_, rfl, rfl, by decide, by decide, in_X13, Or.inr ⟨_, in_nest q676 rfl⟩⟩
def l_X7_pieces_15 (rec : Nat → Nat → MM → Nat → Option (Nat × MM × Nat × Nat)) (Lc Ls : Nat) (K : MM → Nat → Nat → Option (Nat × MM × Nat × Nat)) (F : Nat) (a0 : Nat) (a1 : Nat) : Nat → Nat → MM → Nat → Nat → Option (Nat × MM × Nat × Nat)
  | 0, _, _, _, _ => none
  | f + 1, b2, σ, k, n => bq (g_X7_isGood F σ a0) fun v9 σ8 => if v9 = 0 then (K σ8 k n) else (bq (g_X7_here F σ8 a0) fun v11 σ10 => if v11 = 38 then ((gI σ10 a0 6 7 2).bind fun v12 => (pI σ10 a0 6 7 2 ((v12 + 1))).bind fun σ13 => nwL (k + 1 ≤ Lc ∧ n + 3 ≤ Ls) σ13 (10, 3) fun p14 σ15 => bc (Lc - (k + 1)) (Ls - (n + 3)) (rec (Lc - (k + 1)) (Ls - (n + 3)) σ15 a0) fun p17 σ16 c18 e19 => (g_X13_init F σ16 p14 p17 0).bind fun σ20 => (pP σ20 b2 10 3 2 p14).bind fun σ21 => (gP σ21 b2 10 3 2).bind fun p22 => l_X7_pieces_15 rec Lc Ls K F a0 a1 f p22 σ21 (((k + 1) + c18)) (((n + 3) + e19))) else (K σ10 k n))
def s_X7_pieces (F : Nat) (rec : Nat → Nat → MM → Nat → Option (Nat × MM × Nat × Nat)) (Lc Ls : Nat) (σ : MM) (a0 : Nat) : Option (Nat × MM × Nat × Nat) := if mT σ a0 = (6, 7) then (nwL (0 + 1 ≤ Lc ∧ 0 + 3 ≤ Ls) σ (10, 3) fun p1 σ2 => bc (Lc - (0 + 1)) (Ls - (0 + 3)) (rec (Lc - (0 + 1)) (Ls - (0 + 3)) σ2 a0) fun p4 σ3 c5 e6 => (g_X13_init F σ3 p1 p4 0).bind fun σ7 => l_X7_pieces_15 rec Lc Ls (fun (σ23 : MM) (c24 e25 : Nat) => some (p1, σ23, c24, e25)) F a0 p1 F p1 σ7 (((0 + 1) + c5)) (((0 + 3) + e6))) else none
theorem wl_X7_pieces_15 {B : Nat} {G : XG} {d : Nat} {rf : Nat} {σf : MM} {kf nf : Nat} {rec : Nat → Nat → MM → Nat → Option (Nat × MM × Nat × Nat)} {dr : Nat} (hrec : ∀ (Lc Ls : Nat) (σ : MM) (b0 v : Nat) (σ' : MM) (c s : Nat), rec Lc Ls σ b0 = some (v, σ', c, s) → xMD B yX7_piece cX7_piece 4 (some (.object "OneCoin$Condition")) dr Lc Ls c s [rv B b0] σ (some (rv B v)) σ' ∧ mT σ b0 = (6, 7)) {Lc Ls : Nat} (hd : dr + 1 ≤ d) (hd2 : 3 ≤ d) (C : xC B G yX7_pieces cX7_pieces 3 (some (.object "OneCoin$Condition")) d Lc Ls) (E : xEnd B G (some (rv B rf)) σf kf nf) {K : MM → Nat → Nat → Option (Nat × MM × Nat × Nat)} {F : Nat} {a0 : Nat} {a1 : Nat} (hK : ∀ (σ : MM) (k n : Nat), k ≤ Lc → n ≤ Ls → K σ k n = some (rf, σf, kf, nf) → xV B G k n σ 65 [(1, rv B a1)] []) : ∀ (f : Nat) (b2 : Nat) (σ : MM) (k n : Nat), k ≤ Lc → n ≤ Ls → l_X7_pieces_15 rec Lc Ls K F a0 a1 f b2 σ k n = some (rf, σf, kf, nf) → xV B G k n σ 15 [(0, rv B a0), (1, rv B a1), (2, rv B b2)] [] := by
  intro f
  induction f with
  | zero =>
    intro b2 σ k n hk hn h
    have h : none = some (rf, σf, kf, nf) := h
    cases h
  | succ f ih =>
    intro b2 σ k n hk hn h
    rw [l_X7_pieces_15.eq_2] at h
    refine r_aload_n (pc := 15) (i := 0) C dX7_pieces_15 rfl rfl ?_
    refine r_callVI (pc := 16) (As := []) (st := []) (hc := by omega) (hsl := by omega) C cs_X7_43_X7_isGood h (fun _ _ e => w_X7_isGood (Nat.le_refl 0) e) (fun _ _ e => t_X7_isGood e) (by omega) (Nat.le_of_ble_eq_true rfl) dX7_pieces_16 (fun v9 σ8 h => ?_)
    refine r_ifeq (pc := 19) (tgt := 65) C dX7_pieces_19 (by decide) h (fun h => ?_) (fun h => ?_)
    · refine r_pick (lv' := [(1, rv B a1)]) [1] rfl ?_
      exact hK _ _ _ (by omega) (by omega) h
    · refine r_aload_n (pc := 22) (i := 0) C dX7_pieces_22 rfl rfl ?_
      refine r_callVI (pc := 23) (As := []) (st := []) (hc := by omega) (hsl := by omega) C cs_X7_39_X7_here h (fun _ _ e => w_X7_here (Nat.le_refl 0) e) (fun _ _ e => t_X7_here e) (by omega) (Nat.le_of_ble_eq_true rfl) dX7_pieces_23 (fun v11 σ10 h => ?_)
      refine r_bipush (pc := 26) (v := 38) C dX7_pieces_26 (by decide) ?_
      refine r_icmpne (pc := 28) (tgt := 65) C dX7_pieces_28 (by decide) h (fun h => ?_) (fun h => ?_)
      · refine r_pick (lv' := [(1, rv B a1)]) [1] rfl ?_
        exact hK _ _ _ (by omega) (by omega) h
      · refine r_aload_n (pc := 31) (i := 0) C dX7_pieces_31 rfl rfl ?_
        refine r_dup (pc := 32) C dX7_pieces_32 ?_
        refine r_getI (pc := 33) C fd_X7_26 rfl dX7_pieces_33 h (fun v12 h => ?_)
        refine r_iconst (pc := 36) (v := 1) C dX7_pieces_36 (by decide) ?_
        refine r_iadd (pc := 37) C dX7_pieces_37 ?_
        refine r_putI (pc := 38) C fd_X7_26 ft_X7_2 dX7_pieces_38 h (fun σ13 h => ?_)
        refine r_aload_n (pc := 41) (i := 2) C dX7_pieces_41 rfl rfl ?_
        refine r_newL (pc := 42) C xcl_X13 q630 q631 q135 dX7_pieces_42 rfl rfl (fun ho => ho) h (fun p14 σ15 hop14 h => ?_)
        refine r_dup (pc := 45) C dX7_pieces_45 ?_
        refine r_aload_n (pc := 46) (i := 0) C dX7_pieces_46 rfl rfl ?_
        refine r_callVDP (pc := 47) (As := []) (st := [rv B p14, rv B p14, rv B b2]) C cs_X7_101_X7_piece rfl (lw_V q636 q638 qs15 q123 q639) h (fun _ _ _ _ e => (hrec _ _ _ _ _ _ _ _ e).1) (fun _ _ _ _ e => (hrec _ _ _ _ _ _ _ _ e).2) (by omega) (Nat.le_of_ble_eq_true rfl) dX7_pieces_47 (by omega) (by omega) (fun p17 σ16 c18 e19 hc18 he19 h => ?_)
        refine r_iconst (pc := 50) (v := 0) C dX7_pieces_50 (by decide) ?_
        refine r_callI (pc := 51) (As := [rv B p17, .int 0]) (st := [rv B p14, rv B b2]) C cs_X7_120_X13_init h (fun _ e => w_X13_init (Nat.le_refl 2) e) (fun _ e => by rw [t_X13_init e]; decide) (by omega) (by omega) (by omega) rfl rfl (Nat.le_of_ble_eq_true rfl) dX7_pieces_51 (fun σ20 h => ?_)
        refine r_putP (pc := 54) C fd_X7_123 ft_X13_2 dX7_pieces_54 h (fun σ21 h => ?_)
        refine r_aload_n (pc := 57) (i := 2) C dX7_pieces_57 rfl rfl ?_
        refine r_getP (pc := 58) C fd_X7_123 rfl dX7_pieces_58 h (fun p22 h => ?_)
        refine r_astore_n (pc := 61) (i := 2) C dX7_pieces_61 rfl (by decide) ?_
        refine r_goto (pc := 62) (tgt := 15) C dX7_pieces_62 (by decide) ?_
        refine r_pick (lv' := [(0, rv B a0), (1, rv B a1), (2, rv B p22)]) [0, 1, 2] rfl ?_
        exact ih _ _ _ _ (by omega) (by omega) h
theorem ws_X7_pieces {B F : Nat} {d : Nat} {σ : MM} {a0 : Nat} {rf : Nat} {σf : MM} {kf nf : Nat} {rec : Nat → Nat → MM → Nat → Option (Nat × MM × Nat × Nat)} {dr : Nat} (hrec : ∀ (Lc Ls : Nat) (σ : MM) (b0 v : Nat) (σ' : MM) (c s : Nat), rec Lc Ls σ b0 = some (v, σ', c, s) → xMD B yX7_piece cX7_piece 4 (some (.object "OneCoin$Condition")) dr Lc Ls c s [rv B b0] σ (some (rv B v)) σ' ∧ mT σ b0 = (6, 7)) {Lc Ls : Nat} (hd : dr + 1 ≤ d) (hd2 : 3 ≤ d) (h : s_X7_pieces F rec Lc Ls σ a0 = some (rf, σf, kf, nf)) : xMD B yX7_pieces cX7_pieces 3 (some (.object "OneCoin$Condition")) d Lc Ls kf nf [rv B a0] σ (some (rv B rf)) σf := by
  refine xMD.of (by decide +kernel) (Nat.le_of_ble_eq_true rfl) (cat_rv cat_nil) (fun G C E => ?_)
  unfold s_X7_pieces at h
  obtain ⟨-, h⟩ := r_ck h
  refine r_newL (pc := 0) C xcl_X13 q630 q631 q135 dX7_pieces_0 rfl rfl (fun ho => ho) h (fun p1 σ2 hop1 h => ?_)
  refine r_dup (pc := 3) C dX7_pieces_3 ?_
  refine r_aload_n (pc := 4) (i := 0) C dX7_pieces_4 rfl rfl ?_
  refine r_callVDP (pc := 5) (As := []) (st := [rv B p1, rv B p1]) C cs_X7_101_X7_piece rfl (lw_V q636 q638 qs15 q123 q639) h (fun _ _ _ _ e => (hrec _ _ _ _ _ _ _ _ e).1) (fun _ _ _ _ e => (hrec _ _ _ _ _ _ _ _ e).2) (by omega) (Nat.le_of_ble_eq_true rfl) dX7_pieces_5 (by omega) (by omega) (fun p4 σ3 c5 e6 hc5 he6 h => ?_)
  refine r_iconst (pc := 8) (v := 0) C dX7_pieces_8 (by decide) ?_
  refine r_callI (pc := 9) (As := [rv B p4, .int 0]) (st := [rv B p1]) C cs_X7_120_X13_init h (fun _ e => w_X13_init (Nat.le_refl 2) e) (fun _ e => by rw [t_X13_init e]; decide) (by omega) (by omega) (by omega) rfl rfl (Nat.le_of_ble_eq_true rfl) dX7_pieces_9 (fun σ7 h => ?_)
  refine r_astore_n (pc := 12) (i := 1) C dX7_pieces_12 rfl (by decide) ?_
  refine r_aload_n (pc := 13) (i := 1) C dX7_pieces_13 rfl rfl ?_
  refine r_astore_n (pc := 14) (i := 2) C dX7_pieces_14 rfl (by decide) ?_
  refine r_pick (lv' := [(0, rv B a0), (1, rv B p1), (2, rv B p1)]) [0, 1, 2] rfl ?_
  refine wl_X7_pieces_15 hrec hd hd2 C E (fun  σ23 c24 e25 hkc24 hne25 h => ?_) _ _ _ _ _ (by omega) (by omega) h
  refine r_aload_n (pc := 65) (i := 1) C dX7_pieces_65 rfl rfl ?_
  exact r_aretD (pc := 66) C rfl dX7_pieces_66 h E
theorem ts_X7_pieces {F : Nat} {rec : Nat → Nat → MM → Nat → Option (Nat × MM × Nat × Nat)} {Lc Ls : Nat} {σ : MM} {a0 : Nat} {r : Nat × MM × Nat × Nat} (h : s_X7_pieces F rec Lc Ls σ a0 = some r) : mT σ a0 = (6, 7) := by
  unfold s_X7_pieces at h
  exact (r_ck h).1
theorem yd_X7_pieces : xYd yX7_pieces 0 := ⟨by decide +kernel, by decide +kernel, by decide +kernel⟩
theorem cs_X7_126_X7_pieces : xCV RX7 126 yX7_pieces cX7_pieces 3 (some (.object "OneCoin$Condition")) 6 7 0 := ⟨by decide, by decide, _, rfl, yd_X7_pieces, Or.inl ⟨rfl, lw_V q632 q634 qs14 q123 q635⟩⟩
def l_X7_condition_30 (rec : Nat → Nat → MM → Nat → Option (Nat × MM × Nat × Nat)) (Lc Ls : Nat) (K : MM → Nat → Nat → Option (Nat × MM × Nat × Nat)) (F : Nat) (a0 : Nat) (a1 : Nat) : Nat → Nat → MM → Nat → Nat → Option (Nat × MM × Nat × Nat)
  | 0, _, _, _, _ => none
  | f + 1, b2, σ, k, n => bq (g_X7_isGood F σ a0) fun v10 σ9 => if v10 = 0 then (K σ9 k n) else (bq (g_X7_here F σ9 a0) fun v12 σ11 => if v12 = 124 then ((gI σ11 a0 6 7 2).bind fun v13 => (pI σ11 a0 6 7 2 ((v13 + 1))).bind fun σ14 => nwL (k + 1 ≤ Lc ∧ n + 3 ≤ Ls) σ14 (10, 3) fun p15 σ16 => bc (Lc - (k + 1)) (Ls - (n + 3)) (s_X7_pieces F rec (Lc - (k + 1)) (Ls - (n + 3)) σ16 a0) fun p18 σ17 c19 e20 => (g_X13_init F σ17 p15 p18 1).bind fun σ21 => (pP σ21 b2 10 3 2 p15).bind fun σ22 => (gP σ22 b2 10 3 2).bind fun p23 => l_X7_condition_30 rec Lc Ls K F a0 a1 f p23 σ22 (((k + 1) + c19)) (((n + 3) + e20))) else (K σ11 k n))
def s_X7_condition (F : Nat) (rec : Nat → Nat → MM → Nat → Option (Nat × MM × Nat × Nat)) (Lc Ls : Nat) (σ : MM) (a0 : Nat) : Option (Nat × MM × Nat × Nat) := if mT σ a0 = (6, 7) then ((g_X7_opens F σ a0).bind fun σ1 => bq (g_X7_isGood F σ1 a0) fun v3 σ2 => jn (fun (w5 : Nat) (σ4 : MM) (c7 e8 : Nat) => l_X7_condition_30 rec Lc Ls (fun (σ24 : MM) (c25 e26 : Nat) => bq (g_X7_isGood F σ24 a0) fun v28 σ27 => jn (fun (σ29 : MM) (c31 e32 : Nat) => (gI σ29 a0 6 7 3).bind fun v33 => (pI σ29 a0 6 7 3 ((v33 - 1))).bind fun σ34 => some (w5, σ34, c31, e32)) (fun k30 => if v28 = 0 then (k30 σ27 c25 e26) else ((g_X7_must F σ27 a0 41).bind fun σ35 => k30 σ35 c25 e26))) F a0 w5 F w5 σ4 c7 e8) (fun k6 => if v3 = 0 then (k6 0 σ2 0 0) else (nwL (0 + 1 ≤ Lc ∧ 0 + 3 ≤ Ls) σ2 (10, 3) fun p36 σ37 => bc (Lc - (0 + 1)) (Ls - (0 + 3)) (s_X7_pieces F rec (Lc - (0 + 1)) (Ls - (0 + 3)) σ37 a0) fun p39 σ38 c40 e41 => (g_X13_init F σ38 p36 p39 1).bind fun σ42 => k6 p36 σ42 (((0 + 1) + c40)) (((0 + 3) + e41))))) else none
theorem wl_X7_condition_30 {B : Nat} {G : XG} {d : Nat} {rf : Nat} {σf : MM} {kf nf : Nat} {rec : Nat → Nat → MM → Nat → Option (Nat × MM × Nat × Nat)} {dr : Nat} (hrec : ∀ (Lc Ls : Nat) (σ : MM) (b0 v : Nat) (σ' : MM) (c s : Nat), rec Lc Ls σ b0 = some (v, σ', c, s) → xMD B yX7_piece cX7_piece 4 (some (.object "OneCoin$Condition")) dr Lc Ls c s [rv B b0] σ (some (rv B v)) σ' ∧ mT σ b0 = (6, 7)) {Lc Ls : Nat} (hd : dr + 2 ≤ d) (hd2 : 4 ≤ d) (C : xC B G yX7_condition cX7_condition 3 (some (.object "OneCoin$Condition")) d Lc Ls) (E : xEnd B G (some (rv B rf)) σf kf nf) {K : MM → Nat → Nat → Option (Nat × MM × Nat × Nat)} {F : Nat} {a0 : Nat} {a1 : Nat} (hK : ∀ (σ : MM) (k n : Nat), k ≤ Lc → n ≤ Ls → K σ k n = some (rf, σf, kf, nf) → xV B G k n σ 80 [(0, rv B a0), (1, rv B a1)] []) : ∀ (f : Nat) (b2 : Nat) (σ : MM) (k n : Nat), k ≤ Lc → n ≤ Ls → l_X7_condition_30 rec Lc Ls K F a0 a1 f b2 σ k n = some (rf, σf, kf, nf) → xV B G k n σ 30 [(0, rv B a0), (1, rv B a1), (2, rv B b2)] [] := by
  intro f
  induction f with
  | zero =>
    intro b2 σ k n hk hn h
    have h : none = some (rf, σf, kf, nf) := h
    cases h
  | succ f ih =>
    intro b2 σ k n hk hn h
    rw [l_X7_condition_30.eq_2] at h
    refine r_aload_n (pc := 30) (i := 0) C dX7_condition_30 rfl rfl ?_
    refine r_callVI (pc := 31) (As := []) (st := []) (hc := by omega) (hsl := by omega) C cs_X7_43_X7_isGood h (fun _ _ e => w_X7_isGood (Nat.le_refl 0) e) (fun _ _ e => t_X7_isGood e) (by omega) (Nat.le_of_ble_eq_true rfl) dX7_condition_31 (fun v10 σ9 h => ?_)
    refine r_ifeq (pc := 34) (tgt := 80) C dX7_condition_34 (by decide) h (fun h => ?_) (fun h => ?_)
    · refine r_pick (lv' := [(0, rv B a0), (1, rv B a1)]) [0, 1] rfl ?_
      exact hK _ _ _ (by omega) (by omega) h
    · refine r_aload_n (pc := 37) (i := 0) C dX7_condition_37 rfl rfl ?_
      refine r_callVI (pc := 38) (As := []) (st := []) (hc := by omega) (hsl := by omega) C cs_X7_39_X7_here h (fun _ _ e => w_X7_here (Nat.le_refl 0) e) (fun _ _ e => t_X7_here e) (by omega) (Nat.le_of_ble_eq_true rfl) dX7_condition_38 (fun v12 σ11 h => ?_)
      refine r_bipush (pc := 41) (v := 124) C dX7_condition_41 (by decide) ?_
      refine r_icmpne (pc := 43) (tgt := 80) C dX7_condition_43 (by decide) h (fun h => ?_) (fun h => ?_)
      · refine r_pick (lv' := [(0, rv B a0), (1, rv B a1)]) [0, 1] rfl ?_
        exact hK _ _ _ (by omega) (by omega) h
      · refine r_aload_n (pc := 46) (i := 0) C dX7_condition_46 rfl rfl ?_
        refine r_dup (pc := 47) C dX7_condition_47 ?_
        refine r_getI (pc := 48) C fd_X7_26 rfl dX7_condition_48 h (fun v13 h => ?_)
        refine r_iconst (pc := 51) (v := 1) C dX7_condition_51 (by decide) ?_
        refine r_iadd (pc := 52) C dX7_condition_52 ?_
        refine r_putI (pc := 53) C fd_X7_26 ft_X7_2 dX7_condition_53 h (fun σ14 h => ?_)
        refine r_aload_n (pc := 56) (i := 2) C dX7_condition_56 rfl rfl ?_
        refine r_newL (pc := 57) C xcl_X13 q630 q631 q135 dX7_condition_57 rfl rfl (fun ho => ho) h (fun p15 σ16 hop15 h => ?_)
        refine r_dup (pc := 60) C dX7_condition_60 ?_
        refine r_aload_n (pc := 61) (i := 0) C dX7_condition_61 rfl rfl ?_
        refine r_callVDP (pc := 62) (As := []) (st := [rv B p15, rv B p15, rv B b2]) C cs_X7_126_X7_pieces rfl (lw_V q632 q634 qs14 q123 q635) h (fun _ _ _ _ e => ws_X7_pieces (d := d - 1) hrec (by omega) (by omega) e) (fun _ _ _ _ e => ts_X7_pieces e) (by omega) (Nat.le_of_ble_eq_true rfl) dX7_condition_62 (by omega) (by omega) (fun p18 σ17 c19 e20 hc19 he20 h => ?_)
        refine r_iconst (pc := 65) (v := 1) C dX7_condition_65 (by decide) ?_
        refine r_callI (pc := 66) (As := [rv B p18, .int 1]) (st := [rv B p15, rv B b2]) C cs_X7_120_X13_init h (fun _ e => w_X13_init (Nat.le_refl 2) e) (fun _ e => by rw [t_X13_init e]; decide) (by omega) (by omega) (by omega) rfl rfl (Nat.le_of_ble_eq_true rfl) dX7_condition_66 (fun σ21 h => ?_)
        refine r_putP (pc := 69) C fd_X7_123 ft_X13_2 dX7_condition_69 h (fun σ22 h => ?_)
        refine r_aload_n (pc := 72) (i := 2) C dX7_condition_72 rfl rfl ?_
        refine r_getP (pc := 73) C fd_X7_123 rfl dX7_condition_73 h (fun p23 h => ?_)
        refine r_astore_n (pc := 76) (i := 2) C dX7_condition_76 rfl (by decide) ?_
        refine r_goto (pc := 77) (tgt := 30) C dX7_condition_77 (by decide) ?_
        refine r_pick (lv' := [(0, rv B a0), (1, rv B a1), (2, rv B p23)]) [0, 1, 2] rfl ?_
        exact ih _ _ _ _ (by omega) (by omega) h
theorem ws_X7_condition {B F : Nat} {d : Nat} {σ : MM} {a0 : Nat} {rf : Nat} {σf : MM} {kf nf : Nat} {rec : Nat → Nat → MM → Nat → Option (Nat × MM × Nat × Nat)} {dr : Nat} (hrec : ∀ (Lc Ls : Nat) (σ : MM) (b0 v : Nat) (σ' : MM) (c s : Nat), rec Lc Ls σ b0 = some (v, σ', c, s) → xMD B yX7_piece cX7_piece 4 (some (.object "OneCoin$Condition")) dr Lc Ls c s [rv B b0] σ (some (rv B v)) σ' ∧ mT σ b0 = (6, 7)) {Lc Ls : Nat} (hd : dr + 2 ≤ d) (hd2 : 4 ≤ d) (h : s_X7_condition F rec Lc Ls σ a0 = some (rf, σf, kf, nf)) : xMD B yX7_condition cX7_condition 3 (some (.object "OneCoin$Condition")) d Lc Ls kf nf [rv B a0] σ (some (rv B rf)) σf := by
  refine xMD.of (by decide +kernel) (Nat.le_of_ble_eq_true rfl) (cat_rv cat_nil) (fun G C E => ?_)
  unfold s_X7_condition at h
  obtain ⟨-, h⟩ := r_ck h
  refine r_aload_n (pc := 0) (i := 0) C dX7_condition_0 rfl rfl ?_
  refine r_callVV (pc := 1) (As := []) (st := []) (hc := by omega) (hsl := by omega) C cs_X7_57_X7_opens h (fun _ e => w_X7_opens (Nat.le_refl 1) e) (fun _ e => t_X7_opens e) (by omega) (Nat.le_of_ble_eq_true rfl) dX7_condition_1 (fun σ1 h => ?_)
  refine r_aload_n (pc := 4) (i := 0) C dX7_condition_4 rfl rfl ?_
  refine r_callVI (pc := 5) (As := []) (st := []) (hc := by omega) (hsl := by omega) C cs_X7_43_X7_isGood h (fun _ _ e => w_X7_isGood (Nat.le_refl 0) e) (fun _ _ e => t_X7_isGood e) (by omega) (Nat.le_of_ble_eq_true rfl) dX7_condition_5 (fun v3 σ2 h => ?_)
  refine r_jn (fun k9 => ∀ (w5 : Nat) (σ4 : MM) (c7 e8 : Nat), c7 ≤ Lc → e8 ≤ Ls → k9 w5 σ4 c7 e8 = some (rf, σf, kf, nf) → xV B G c7 e8 σ4 27 [(0, rv B a0)] [rv B w5]) h (fun w5 σ4 c7 e8 hkc7 hne8 h => ?_) (fun k6 hk6 h => ?_)
  · refine r_astore_n (pc := 27) (i := 1) C dX7_condition_27 rfl (by decide) ?_
    refine r_aload_n (pc := 28) (i := 1) C dX7_condition_28 rfl rfl ?_
    refine r_astore_n (pc := 29) (i := 2) C dX7_condition_29 rfl (by decide) ?_
    refine r_pick (lv' := [(0, rv B a0), (1, rv B w5), (2, rv B w5)]) [0, 1, 2] rfl ?_
    refine wl_X7_condition_30 hrec hd hd2 C E (fun  σ24 c25 e26 hkc25 hne26 h => ?_) _ _ _ _ _ (by omega) (by omega) h
    refine r_aload_n (pc := 80) (i := 0) C dX7_condition_80 rfl rfl ?_
    refine r_callVI (pc := 81) (As := []) (st := []) (hc := by omega) (hsl := by omega) C cs_X7_43_X7_isGood h (fun _ _ e => w_X7_isGood (Nat.le_refl 0) e) (fun _ _ e => t_X7_isGood e) (by omega) (Nat.le_of_ble_eq_true rfl) dX7_condition_81 (fun v28 σ27 h => ?_)
    refine r_jn (fun k9 => ∀  (σ29 : MM) (c31 e32 : Nat), c31 ≤ Lc → e32 ≤ Ls → k9 σ29 c31 e32 = some (rf, σf, kf, nf) → xV B G c31 e32 σ29 93 [(0, rv B a0), (1, rv B w5)] []) h (fun  σ29 c31 e32 hkc31 hne32 h => ?_) (fun k30 hk30 h => ?_)
    · refine r_aload_n (pc := 93) (i := 0) C dX7_condition_93 rfl rfl ?_
      refine r_dup (pc := 94) C dX7_condition_94 ?_
      refine r_getI (pc := 95) C fd_X7_54 rfl dX7_condition_95 h (fun v33 h => ?_)
      refine r_iconst (pc := 98) (v := 1) C dX7_condition_98 (by decide) ?_
      refine r_isub (pc := 99) C dX7_condition_99 ?_
      refine r_putI (pc := 100) C fd_X7_54 ft_X7_3 dX7_condition_100 h (fun σ34 h => ?_)
      refine r_aload_n (pc := 103) (i := 1) C dX7_condition_103 rfl rfl ?_
      exact r_aretD (pc := 104) C rfl dX7_condition_104 h E
    · refine r_ifeq (pc := 84) (tgt := 93) C dX7_condition_84 (by decide) h (fun h => ?_) (fun h => ?_)
      · refine r_pick (lv' := [(0, rv B a0), (1, rv B w5)]) [0, 1] rfl ?_
        exact hk30 _ _ _ (by omega) (by omega) h
      · refine r_aload_n (pc := 87) (i := 0) C dX7_condition_87 rfl rfl ?_
        refine r_bipush (pc := 88) (v := 41) C dX7_condition_88 (by decide) ?_
        refine r_callVV (pc := 90) (As := [.int 41]) (st := []) (hc := by omega) (hsl := by omega) C cs_X7_64_X7_must h (fun _ e => w_X7_must (Nat.le_refl 1) e) (fun _ e => t_X7_must e) (by omega) (Nat.le_of_ble_eq_true rfl) dX7_condition_90 (fun σ35 h => ?_)
        refine r_pick (lv' := [(0, rv B a0), (1, rv B w5)]) [0, 1] rfl ?_
        exact hk30 _ _ _ (by omega) (by omega) h
  · refine r_ifeq (pc := 8) (tgt := 26) C dX7_condition_8 (by decide) h (fun h => ?_) (fun h => ?_)
    · refine r_null (pc := 26) C dX7_condition_26 ?_
      refine r_pick (lv' := [(0, rv B a0)]) [0] rfl ?_
      exact hk6 _ _ _ _ (by omega) (by omega) h
    · refine r_newL (pc := 11) C xcl_X13 q630 q631 q135 dX7_condition_11 rfl rfl (fun ho => ho) h (fun p36 σ37 hop36 h => ?_)
      refine r_dup (pc := 14) C dX7_condition_14 ?_
      refine r_aload_n (pc := 15) (i := 0) C dX7_condition_15 rfl rfl ?_
      refine r_callVDP (pc := 16) (As := []) (st := [rv B p36, rv B p36]) C cs_X7_126_X7_pieces rfl (lw_V q632 q634 qs14 q123 q635) h (fun _ _ _ _ e => ws_X7_pieces (d := d - 1) hrec (by omega) (by omega) e) (fun _ _ _ _ e => ts_X7_pieces e) (by omega) (Nat.le_of_ble_eq_true rfl) dX7_condition_16 (by omega) (by omega) (fun p39 σ38 c40 e41 hc40 he41 h => ?_)
      refine r_iconst (pc := 19) (v := 1) C dX7_condition_19 (by decide) ?_
      refine r_callI (pc := 20) (As := [rv B p39, .int 1]) (st := [rv B p36]) C cs_X7_120_X13_init h (fun _ e => w_X13_init (Nat.le_refl 2) e) (fun _ e => by rw [t_X13_init e]; decide) (by omega) (by omega) (by omega) rfl rfl (Nat.le_of_ble_eq_true rfl) dX7_condition_20 (fun σ42 h => ?_)
      refine r_goto (pc := 23) (tgt := 27) C dX7_condition_23 (by decide) ?_
      refine r_pick (lv' := [(0, rv B a0)]) [0] rfl ?_
      exact hk6 _ _ _ _ (by omega) (by omega) h
theorem ts_X7_condition {F : Nat} {rec : Nat → Nat → MM → Nat → Option (Nat × MM × Nat × Nat)} {Lc Ls : Nat} {σ : MM} {a0 : Nat} {r : Nat × MM × Nat × Nat} (h : s_X7_condition F rec Lc Ls σ a0 = some r) : mT σ a0 = (6, 7) := by
  unfold s_X7_condition at h
  exact (r_ck h).1
theorem xcl_X15 : xCl 12 3 RX15 := classCl _ rfl rfl rfl (by decide) in_X15 tyX15_ok (by decide +kernel)
theorem yd_X15_init : xYd yX15_init 3 := ⟨by decide +kernel, by decide +kernel, by decide +kernel⟩
theorem cs_X7_115_X15_init : xCI RX7 115 yX15_init cX15_init 4 3 := ⟨by decide, rfl, yd_X15_init, lw_meth q657, q137, q656, Or.inl q655⟩
theorem yd_X7_condition : xYd yX7_condition 0 := ⟨by decide +kernel, by decide +kernel, by decide +kernel⟩
theorem cs_X7_110_X7_condition : xCV RX7 110 yX7_condition cX7_condition 3 (some (.object "OneCoin$Condition")) 6 7 0 := ⟨by decide, by decide, _, rfl, yd_X7_condition, Or.inl ⟨rfl, lw_V q626 q628 qs13 q123 q629⟩⟩
theorem xcl_X14 : xCl 11 1 RX14 := classCl _ rfl rfl rfl (by decide) in_X14 tyX14_ok (by decide +kernel)
theorem yd_X14_init : xYd yX14_init 1 := ⟨by decide +kernel, by decide +kernel, by decide +kernel⟩
theorem cs_X7_107_X14_init : xCI RX7 107 yX14_init cX14_init 2 1 := ⟨by decide, rfl, yd_X14_init, lw_meth q644, q136, q643, Or.inl q642⟩
def s_X7_piece (F : Nat) (rec : Nat → Nat → MM → Nat → Option (Nat × MM × Nat × Nat)) (Lc Ls : Nat) (σ : MM) (a0 : Nat) : Option (Nat × MM × Nat × Nat) := if mT σ a0 = (6, 7) then (bq (g_X7_here F σ a0) fun v2 σ1 => if v2 = 33 then ((g_X7_opens F σ1 a0).bind fun σ31 => bq (g_X7_isGood F σ31 a0) fun v33 σ32 => jn (fun (w35 : Nat) (σ34 : MM) (c37 e38 : Nat) => (gI σ34 a0 6 7 3).bind fun v39 => (pI σ34 a0 6 7 3 ((v39 - 1))).bind fun σ40 => nwL (c37 + 1 ≤ Lc ∧ e38 + 1 ≤ Ls) σ40 (11, 1) fun p41 σ42 => (g_X14_init F σ42 p41 w35).bind fun σ43 => some (p41, σ43, (c37 + 1), (e38 + 1))) (fun k36 => if v33 = 0 then (k36 0 σ32 0 0) else (bc (Lc - 0) (Ls - 0) (rec (Lc - 0) (Ls - 0) σ32 a0) fun p45 σ44 c46 e47 => k36 p45 σ44 ((0 + c46)) ((0 + e47))))) else (if v2 = 40 then (bc (Lc - 0) (Ls - 0) (s_X7_condition F rec (Lc - 0) (Ls - 0) σ1 a0) fun p28 σ27 c29 e30 => some (p28, σ27, (0 + c29), (0 + e30))) else (bc (Lc - 0) (Ls - 0) (g_X7_sum F (Lc - 0) (Ls - 0) σ1 a0) fun p4 σ3 c5 e6 => bq (g_X7_here F σ3 a0) fun v8 σ7 => jn (fun (σ9 : MM) (c11 e12 : Nat) => (gI σ9 a0 6 7 2).bind fun v13 => (pI σ9 a0 6 7 2 ((v13 + 1))).bind fun σ14 => nwL (c11 + 1 ≤ Lc ∧ e12 + 3 ≤ Ls) σ14 (12, 3) fun p15 σ16 => bq (g_X7_isGood F σ16 a0) fun v18 σ17 => if v18 = 0 then ((g_X15_init F σ17 p15 p4 v8 0).bind fun σ19 => some (p15, σ19, (c11 + 1), (e12 + 3))) else (bc (Lc - (c11 + 1)) (Ls - (e12 + 3)) (g_X7_sum F (Lc - (c11 + 1)) (Ls - (e12 + 3)) σ17 a0) fun p21 σ20 c22 e23 => (g_X15_init F σ20 p15 p4 v8 p21).bind fun σ24 => some (p15, σ24, ((c11 + 1) + c22), ((e12 + 3) + e23)))) (fun k10 => if v8 = 60 then (k10 σ7 ((0 + c5)) ((0 + e6))) else (if v8 = 62 then (k10 σ7 ((0 + c5)) ((0 + e6))) else (if v8 = 61 then (k10 σ7 ((0 + c5)) ((0 + e6))) else ((gI σ7 a0 6 7 2).bind fun v25 => (g_X7_bad F σ7 a0 1 v25).bind fun σ26 => k10 σ26 ((0 + c5)) ((0 + e6))))))))) else none
theorem ws_X7_piece {B F : Nat} {d : Nat} {σ : MM} {a0 : Nat} {rf : Nat} {σf : MM} {kf nf : Nat} {rec : Nat → Nat → MM → Nat → Option (Nat × MM × Nat × Nat)} {dr : Nat} (hrec : ∀ (Lc Ls : Nat) (σ : MM) (b0 v : Nat) (σ' : MM) (c s : Nat), rec Lc Ls σ b0 = some (v, σ', c, s) → xMD B yX7_piece cX7_piece 4 (some (.object "OneCoin$Condition")) dr Lc Ls c s [rv B b0] σ (some (rv B v)) σ' ∧ mT σ b0 = (6, 7)) {Lc Ls : Nat} (hd : dr + 3 ≤ d) (hd2 : 199 ≤ d) (h : s_X7_piece F rec Lc Ls σ a0 = some (rf, σf, kf, nf)) : xMD B yX7_piece cX7_piece 4 (some (.object "OneCoin$Condition")) d Lc Ls kf nf [rv B a0] σ (some (rv B rf)) σf := by
  refine xMD.of (by decide +kernel) (Nat.le_of_ble_eq_true rfl) (cat_rv cat_nil) (fun G C E => ?_)
  unfold s_X7_piece at h
  obtain ⟨-, h⟩ := r_ck h
  refine r_aload_n (pc := 0) (i := 0) C dX7_piece_0 rfl rfl ?_
  refine r_callVI (pc := 1) (As := []) (st := []) (hc := by omega) (hsl := by omega) C cs_X7_39_X7_here h (fun _ _ e => w_X7_here (Nat.le_refl 0) e) (fun _ _ e => t_X7_here e) (by omega) (Nat.le_of_ble_eq_true rfl) dX7_piece_1 (fun v2 σ1 h => ?_)
  refine r_istore_n (pc := 4) (i := 1) C dX7_piece_4 rfl (by decide) ?_
  refine r_iload_n (pc := 5) (i := 1) C dX7_piece_5 rfl rfl ?_
  refine r_bipush (pc := 6) (v := 33) C dX7_piece_6 (by decide) ?_
  refine r_icmpne (pc := 8) (tgt := 50) C dX7_piece_8 (by decide) h (fun h => ?_) (fun h => ?_)
  · refine r_iload_n (pc := 50) (i := 1) C dX7_piece_50 rfl rfl ?_
    refine r_bipush (pc := 51) (v := 40) C dX7_piece_51 (by decide) ?_
    refine r_icmpne (pc := 53) (tgt := 61) C dX7_piece_53 (by decide) h (fun h => ?_) (fun h => ?_)
    · refine r_aload_n (pc := 61) (i := 0) C dX7_piece_61 rfl rfl ?_
      refine r_callVDP (pc := 62) (As := []) (st := []) C cs_X7_60_X7_sum rfl (lw_V q557 q559 qs6 q123 q560) h (fun _ _ _ _ e => w_X7_sum (Nat.le_refl 198) e) (fun _ _ _ _ e => t_X7_sum e) (by omega) (Nat.le_of_ble_eq_true rfl) dX7_piece_62 (by omega) (by omega) (fun p4 σ3 c5 e6 hc5 he6 h => ?_)
      refine r_astore_n (pc := 65) (i := 2) C dX7_piece_65 rfl (by decide) ?_
      refine r_aload_n (pc := 66) (i := 0) C dX7_piece_66 rfl rfl ?_
      refine r_callVI (pc := 67) (As := []) (st := []) (hc := by omega) (hsl := by omega) C cs_X7_39_X7_here h (fun _ _ e => w_X7_here (Nat.le_refl 0) e) (fun _ _ e => t_X7_here e) (by omega) (Nat.le_of_ble_eq_true rfl) dX7_piece_67 (fun v8 σ7 h => ?_)
      refine r_istore_n (pc := 70) (i := 3) C dX7_piece_70 rfl (by decide) ?_
      refine r_iload_n (pc := 71) (i := 3) C dX7_piece_71 rfl rfl ?_
      refine r_bipush (pc := 72) (v := 60) C dX7_piece_72 (by decide) ?_
      refine r_jn (fun k9 => ∀  (σ9 : MM) (c11 e12 : Nat), c11 ≤ Lc → e12 ≤ Ls → k9 σ9 c11 e12 = some (rf, σf, kf, nf) → xV B G c11 e12 σ9 98 [(0, rv B a0), (2, rv B p4), (3, .int v8)] []) h (fun  σ9 c11 e12 hkc11 hne12 h => ?_) (fun k10 hk10 h => ?_)
      · refine r_aload_n (pc := 98) (i := 0) C dX7_piece_98 rfl rfl ?_
        refine r_dup (pc := 99) C dX7_piece_99 ?_
        refine r_getI (pc := 100) C fd_X7_26 rfl dX7_piece_100 h (fun v13 h => ?_)
        refine r_iconst (pc := 103) (v := 1) C dX7_piece_103 (by decide) ?_
        refine r_iadd (pc := 104) C dX7_piece_104 ?_
        refine r_putI (pc := 105) C fd_X7_26 ft_X7_2 dX7_piece_105 h (fun σ14 h => ?_)
        refine r_newL (pc := 108) C xcl_X15 q653 q654 q137 dX7_piece_108 rfl rfl (fun ho => ho) h (fun p15 σ16 hop15 h => ?_)
        refine r_dup (pc := 111) C dX7_piece_111 ?_
        refine r_aload_n (pc := 112) (i := 2) C dX7_piece_112 rfl rfl ?_
        refine r_iload_n (pc := 113) (i := 3) C dX7_piece_113 rfl rfl ?_
        refine r_aload_n (pc := 114) (i := 0) C dX7_piece_114 rfl rfl ?_
        refine r_callVI (pc := 115) (As := []) (st := [.int v8, rv B p4, rv B p15, rv B p15]) (hc := by omega) (hsl := by omega) C cs_X7_43_X7_isGood h (fun _ _ e => w_X7_isGood (Nat.le_refl 0) e) (fun _ _ e => t_X7_isGood e) (by omega) (Nat.le_of_ble_eq_true rfl) dX7_piece_115 (fun v18 σ17 h => ?_)
        refine r_ifeq (pc := 118) (tgt := 128) C dX7_piece_118 (by decide) h (fun h => ?_) (fun h => ?_)
        · refine r_null (pc := 128) C dX7_piece_128 ?_
          refine r_callI (pc := 129) (As := [rv B p4, .int v8, rv B 0]) (st := [rv B p15]) C cs_X7_115_X15_init h (fun _ e => w_X15_init (Nat.le_refl 2) e) (fun _ e => by rw [t_X15_init e]; decide) (by omega) (by omega) (by omega) rfl rfl (Nat.le_of_ble_eq_true rfl) dX7_piece_129 (fun σ19 h => ?_)
          exact r_aretD (pc := 132) C rfl dX7_piece_132 h E
        · refine r_aload_n (pc := 121) (i := 0) C dX7_piece_121 rfl rfl ?_
          refine r_callVDP (pc := 122) (As := []) (st := [.int v8, rv B p4, rv B p15, rv B p15]) C cs_X7_60_X7_sum rfl (lw_V q557 q559 qs6 q123 q560) h (fun _ _ _ _ e => w_X7_sum (Nat.le_refl 198) e) (fun _ _ _ _ e => t_X7_sum e) (by omega) (Nat.le_of_ble_eq_true rfl) dX7_piece_122 (by omega) (by omega) (fun p21 σ20 c22 e23 hc22 he23 h => ?_)
          refine r_goto (pc := 125) (tgt := 129) C dX7_piece_125 (by decide) ?_
          refine r_callI (pc := 129) (As := [rv B p4, .int v8, rv B p21]) (st := [rv B p15]) C cs_X7_115_X15_init h (fun _ e => w_X15_init (Nat.le_refl 2) e) (fun _ e => by rw [t_X15_init e]; decide) (by omega) (by omega) (by omega) rfl rfl (Nat.le_of_ble_eq_true rfl) dX7_piece_129 (fun σ24 h => ?_)
          exact r_aretD (pc := 132) C rfl dX7_piece_132 h E
      · refine r_icmpeq (pc := 74) (tgt := 98) C dX7_piece_74 (by decide) h (fun h => ?_) (fun h => ?_)
        · refine r_pick (lv' := [(0, rv B a0), (2, rv B p4), (3, .int v8)]) [0, 2, 3] rfl ?_
          exact hk10 _ _ _ (by omega) (by omega) h
        · refine r_iload_n (pc := 77) (i := 3) C dX7_piece_77 rfl rfl ?_
          refine r_bipush (pc := 78) (v := 62) C dX7_piece_78 (by decide) ?_
          refine r_icmpeq (pc := 80) (tgt := 98) C dX7_piece_80 (by decide) h (fun h => ?_) (fun h => ?_)
          · refine r_pick (lv' := [(0, rv B a0), (2, rv B p4), (3, .int v8)]) [0, 2, 3] rfl ?_
            exact hk10 _ _ _ (by omega) (by omega) h
          · refine r_iload_n (pc := 83) (i := 3) C dX7_piece_83 rfl rfl ?_
            refine r_bipush (pc := 84) (v := 61) C dX7_piece_84 (by decide) ?_
            refine r_icmpeq (pc := 86) (tgt := 98) C dX7_piece_86 (by decide) h (fun h => ?_) (fun h => ?_)
            · refine r_pick (lv' := [(0, rv B a0), (2, rv B p4), (3, .int v8)]) [0, 2, 3] rfl ?_
              exact hk10 _ _ _ (by omega) (by omega) h
            · refine r_aload_n (pc := 89) (i := 0) C dX7_piece_89 rfl rfl ?_
              refine r_iconst (pc := 90) (v := 1) C dX7_piece_90 (by decide) ?_
              refine r_aload_n (pc := 91) (i := 0) C dX7_piece_91 rfl rfl ?_
              refine r_getI (pc := 92) C fd_X7_26 rfl dX7_piece_92 h (fun v25 h => ?_)
              refine r_callVV (pc := 95) (As := [.int 1, .int v25]) (st := []) (hc := by omega) (hsl := by omega) C cs_X7_50_X7_bad h (fun _ e => w_X7_bad (Nat.le_refl 0) e) (fun _ e => t_X7_bad e) (by omega) (Nat.le_of_ble_eq_true rfl) dX7_piece_95 (fun σ26 h => ?_)
              refine r_pick (lv' := [(0, rv B a0), (2, rv B p4), (3, .int v8)]) [0, 2, 3] rfl ?_
              exact hk10 _ _ _ (by omega) (by omega) h
    · refine r_aload_n (pc := 56) (i := 0) C dX7_piece_56 rfl rfl ?_
      refine r_callVDP (pc := 57) (As := []) (st := []) C cs_X7_110_X7_condition rfl (lw_V q626 q628 qs13 q123 q629) h (fun _ _ _ _ e => ws_X7_condition (d := d - 1) hrec (by omega) (by omega) e) (fun _ _ _ _ e => ts_X7_condition e) (by omega) (Nat.le_of_ble_eq_true rfl) dX7_piece_57 (by omega) (by omega) (fun p28 σ27 c29 e30 hc29 he30 h => ?_)
      exact r_aretD (pc := 60) C rfl dX7_piece_60 h E
  · refine r_aload_n (pc := 11) (i := 0) C dX7_piece_11 rfl rfl ?_
    refine r_callVV (pc := 12) (As := []) (st := []) (hc := by omega) (hsl := by omega) C cs_X7_57_X7_opens h (fun _ e => w_X7_opens (Nat.le_refl 1) e) (fun _ e => t_X7_opens e) (by omega) (Nat.le_of_ble_eq_true rfl) dX7_piece_12 (fun σ31 h => ?_)
    refine r_aload_n (pc := 15) (i := 0) C dX7_piece_15 rfl rfl ?_
    refine r_callVI (pc := 16) (As := []) (st := []) (hc := by omega) (hsl := by omega) C cs_X7_43_X7_isGood h (fun _ _ e => w_X7_isGood (Nat.le_refl 0) e) (fun _ _ e => t_X7_isGood e) (by omega) (Nat.le_of_ble_eq_true rfl) dX7_piece_16 (fun v33 σ32 h => ?_)
    refine r_jn (fun k9 => ∀ (w35 : Nat) (σ34 : MM) (c37 e38 : Nat), c37 ≤ Lc → e38 ≤ Ls → k9 w35 σ34 c37 e38 = some (rf, σf, kf, nf) → xV B G c37 e38 σ34 30 [(0, rv B a0)] [rv B w35]) h (fun w35 σ34 c37 e38 hkc37 hne38 h => ?_) (fun k36 hk36 h => ?_)
    · refine r_astore_n (pc := 30) (i := 2) C dX7_piece_30 rfl (by decide) ?_
      refine r_aload_n (pc := 31) (i := 0) C dX7_piece_31 rfl rfl ?_
      refine r_dup (pc := 32) C dX7_piece_32 ?_
      refine r_getI (pc := 33) C fd_X7_54 rfl dX7_piece_33 h (fun v39 h => ?_)
      refine r_iconst (pc := 36) (v := 1) C dX7_piece_36 (by decide) ?_
      refine r_isub (pc := 37) C dX7_piece_37 ?_
      refine r_putI (pc := 38) C fd_X7_54 ft_X7_3 dX7_piece_38 h (fun σ40 h => ?_)
      refine r_newL (pc := 41) C xcl_X14 q640 q641 q136 dX7_piece_41 rfl rfl (fun ho => ho) h (fun p41 σ42 hop41 h => ?_)
      refine r_dup (pc := 44) C dX7_piece_44 ?_
      refine r_aload_n (pc := 45) (i := 2) C dX7_piece_45 rfl rfl ?_
      refine r_callI (pc := 46) (As := [rv B w35]) (st := [rv B p41]) C cs_X7_107_X14_init h (fun _ e => w_X14_init (Nat.le_refl 2) e) (fun _ e => by rw [t_X14_init e]; decide) (by omega) (by omega) (by omega) rfl rfl (Nat.le_of_ble_eq_true rfl) dX7_piece_46 (fun σ43 h => ?_)
      exact r_aretD (pc := 49) C rfl dX7_piece_49 h E
    · refine r_ifeq (pc := 19) (tgt := 29) C dX7_piece_19 (by decide) h (fun h => ?_) (fun h => ?_)
      · refine r_null (pc := 29) C dX7_piece_29 ?_
        refine r_pick (lv' := [(0, rv B a0)]) [0] rfl ?_
        exact hk36 _ _ _ _ (by omega) (by omega) h
      · refine r_aload_n (pc := 22) (i := 0) C dX7_piece_22 rfl rfl ?_
        refine r_callVDP (pc := 23) (As := []) (st := []) C cs_X7_101_X7_piece rfl (lw_V q636 q638 qs15 q123 q639) h (fun _ _ _ _ e => (hrec _ _ _ _ _ _ _ _ e).1) (fun _ _ _ _ e => (hrec _ _ _ _ _ _ _ _ e).2) (by omega) (Nat.le_of_ble_eq_true rfl) dX7_piece_23 (by omega) (by omega) (fun p45 σ44 c46 e47 hc46 he47 h => ?_)
        refine r_goto (pc := 26) (tgt := 30) C dX7_piece_26 (by decide) ?_
        refine r_pick (lv' := [(0, rv B a0)]) [0] rfl ?_
        exact hk36 _ _ _ _ (by omega) (by omega) h
theorem ts_X7_piece {F : Nat} {rec : Nat → Nat → MM → Nat → Option (Nat × MM × Nat × Nat)} {Lc Ls : Nat} {σ : MM} {a0 : Nat} {r : Nat × MM × Nat × Nat} (h : s_X7_piece F rec Lc Ls σ a0 = some r) : mT σ a0 = (6, 7) := by
  unfold s_X7_piece at h
  exact (r_ck h).1
def r_X7_piece (F : Nat) : Nat → Nat → Nat → MM → Nat → Option (Nat × MM × Nat × Nat)
  | 0 => fun _ _ _ _ => none
  | f + 1 => fun Lc Ls σ a0 => s_X7_piece F (r_X7_piece F f) Lc Ls σ a0
theorem wr_X7_piece {B F : Nat} : ∀ (f d : Nat), 3 * f + 199 ≤ d → ∀ (Lc Ls : Nat) (σ : MM) (a0 v : Nat) (σ' : MM) (c s : Nat), r_X7_piece F f Lc Ls σ a0 = some (v, σ', c, s) → xMD B yX7_piece cX7_piece 4 (some (.object "OneCoin$Condition")) d Lc Ls c s [rv B a0] σ (some (rv B v)) σ' ∧ mT σ a0 = (6, 7) := by
  intro f
  induction f with
  | zero =>
    intro d hd Lc Ls σ a0 v σ' c s h
    have h : none = some (v, σ', c, s) := h
    cases h
  | succ f ih =>
    intro d hd Lc Ls σ a0 v σ' c s h
    have h : s_X7_piece F (r_X7_piece F f) Lc Ls σ a0 = some (v, σ', c, s) := h
    exact ⟨ws_X7_piece (dr := 3 * f + 199) (ih _ (Nat.le_refl _)) (by omega) (by omega) h, ts_X7_piece h⟩
def g_X7_piece (F : Nat) (Lc Ls : Nat) (σ : MM) (a0 : Nat) : Option (Nat × MM × Nat × Nat) := r_X7_piece F 64 Lc Ls σ a0
theorem w_X7_piece {B F d : Nat} {Lc Ls : Nat} {σ : MM} {a0 : Nat} {rf : Nat} {σf : MM} {kf nf : Nat} (hd : 391 ≤ d) (h : g_X7_piece F Lc Ls σ a0 = some (rf, σf, kf, nf)) : xMD B yX7_piece cX7_piece 4 (some (.object "OneCoin$Condition")) d Lc Ls kf nf [rv B a0] σ (some (rv B rf)) σf := (wr_X7_piece 64 d hd _ _ _ _ _ _ _ _ h).1
theorem t_X7_piece {F : Nat} {Lc Ls : Nat} {σ : MM} {a0 : Nat} {r : Nat × MM × Nat × Nat} (h : g_X7_piece F Lc Ls σ a0 = some r) : mT σ a0 = (6, 7) := ts_X7_piece (rec := r_X7_piece F 63) h
def g_X7_pieces (F : Nat) (Lc Ls : Nat) (σ : MM) (a0 : Nat) : Option (Nat × MM × Nat × Nat) := s_X7_pieces F (r_X7_piece F 64) Lc Ls σ a0
theorem w_X7_pieces {B F d : Nat} {Lc Ls : Nat} {σ : MM} {a0 : Nat} {rf : Nat} {σf : MM} {kf nf : Nat} (hd : 392 ≤ d) (h : g_X7_pieces F Lc Ls σ a0 = some (rf, σf, kf, nf)) : xMD B yX7_pieces cX7_pieces 3 (some (.object "OneCoin$Condition")) d Lc Ls kf nf [rv B a0] σ (some (rv B rf)) σf := ws_X7_pieces (dr := 391) (wr_X7_piece 64 _ (Nat.le_refl _)) (by omega) (by omega) h
theorem t_X7_pieces {F : Nat} {Lc Ls : Nat} {σ : MM} {a0 : Nat} {r : Nat × MM × Nat × Nat} (h : g_X7_pieces F Lc Ls σ a0 = some r) : mT σ a0 = (6, 7) := ts_X7_pieces h
def g_X7_condition (F : Nat) (Lc Ls : Nat) (σ : MM) (a0 : Nat) : Option (Nat × MM × Nat × Nat) := s_X7_condition F (r_X7_piece F 64) Lc Ls σ a0
theorem w_X7_condition {B F d : Nat} {Lc Ls : Nat} {σ : MM} {a0 : Nat} {rf : Nat} {σf : MM} {kf nf : Nat} (hd : 393 ≤ d) (h : g_X7_condition F Lc Ls σ a0 = some (rf, σf, kf, nf)) : xMD B yX7_condition cX7_condition 3 (some (.object "OneCoin$Condition")) d Lc Ls kf nf [rv B a0] σ (some (rv B rf)) σf := ws_X7_condition (dr := 391) (wr_X7_piece 64 _ (Nat.le_refl _)) (by omega) (by omega) h
theorem t_X7_condition {F : Nat} {Lc Ls : Nat} {σ : MM} {a0 : Nat} {r : Nat × MM × Nat × Nat} (h : g_X7_condition F Lc Ls σ a0 = some r) : mT σ a0 = (6, 7) := ts_X7_condition h
theorem fd_X7_134 : xFg RX7 134 4 4 0 := ⟨_, rfl, rfl, by decide, by decide, in_X5, Or.inr ⟨_, in_nest q290 rfl⟩⟩
theorem fd_X7_131 : xFg RX7 131 4 4 3 := ⟨_, rfl, rfl, by decide, by decide, in_X5, Or.inr ⟨_, in_nest q296 rfl⟩⟩
theorem fd_X7_138 : xFg RX7 138 4 4 1 := ⟨_, rfl, rfl, by decide, by decide, in_X5, Or.inr ⟨_, in_nest q292 rfl⟩⟩
theorem fd_X7_142 : xFg RX7 142 4 4 2 := ⟨_, rfl, rfl, by decide, by decide, in_X5, Or.inr ⟨_, in_nest q294 rfl⟩⟩
def g_X7_clause (F : Nat) (Lc Ls : Nat) (σ : MM) (a0 : Nat) : Option (Unit × MM × Nat × Nat) := if mT σ a0 = (6, 7) then (bq (g_X7_here F σ a0) fun v2 σ1 => jn (fun (σ3 : MM) (c5 e6 : Nat) => bq (g_X7_isGood F σ3 a0) fun v8 σ7 => if v8 = 0 then (some ((), σ7, c5, e6)) else ((gI σ7 a0 6 7 2).bind fun v9 => (pI σ7 a0 6 7 2 ((v9 + 1))).bind fun σ10 => (pI σ10 a0 6 7 3 0).bind fun σ11 => jn (fun (w13 : Nat) (σ12 : MM) (c15 e16 : Nat) => bq (g_X7_isGood F σ12 a0) fun v18 σ17 => jn (fun (σ19 : MM) (c21 e22 : Nat) => bq (g_X7_isGood F σ19 a0) fun v24 σ23 => jn (fun (w26 : Nat) (σ25 : MM) (c28 e29 : Nat) => (gP σ25 a0 6 7 1).bind fun p30 => (gP σ25 p30 4 4 0).bind fun p31 => (gP σ25 a0 6 7 1).bind fun p32 => (gI σ25 p32 4 4 3).bind fun v33 => (sI σ25 p31 v33 v2).bind fun σ34 => (gP σ34 a0 6 7 1).bind fun p35 => (gP σ34 p35 4 4 1).bind fun p36 => (gP σ34 a0 6 7 1).bind fun p37 => (gI σ34 p37 4 4 3).bind fun v38 => (sP σ34 p36 23 v38 w13).bind fun σ39 => (gP σ39 a0 6 7 1).bind fun p40 => (gP σ39 p40 4 4 2).bind fun p41 => (gP σ39 a0 6 7 1).bind fun p42 => (gI σ39 p42 4 4 3).bind fun v43 => (sP σ39 p41 24 v43 w26).bind fun σ44 => (gP σ44 a0 6 7 1).bind fun p45 => (gI σ44 p45 4 4 3).bind fun v46 => (pI σ44 p45 4 4 3 ((v46 + 1))).bind fun σ47 => some ((), σ47, c28, e29)) (fun k27 => if v24 = 0 then (k27 0 σ23 c21 e22) else (bc (Lc - c21) (Ls - e22) (g_X7_condition F (Lc - c21) (Ls - e22) σ23 a0) fun p49 σ48 c50 e51 => k27 p49 σ48 ((c21 + c50)) ((e22 + e51))))) (fun k20 => if v18 = 0 then (k20 σ17 c15 e16) else (bq (g_X7_here F σ17 a0) fun v53 σ52 => if v53 = 40 then (k20 σ52 c15 e16) else ((gI σ52 a0 6 7 2).bind fun v54 => (g_X7_bad F σ52 a0 1 v54).bind fun σ55 => k20 σ55 c15 e16)))) (fun k14 => if v2 = 115 then (k14 0 σ11 c5 e6) else (bc (Lc - c5) (Ls - e6) (g_X7_sum F (Lc - c5) (Ls - e6) σ11 a0) fun p57 σ56 c58 e59 => k14 p57 σ56 ((c5 + c58)) ((e6 + e59)))))) (fun k4 => jn (fun (σ60 : MM) (c62 e63 : Nat) => (gI σ60 a0 6 7 2).bind fun v64 => (g_X7_bad F σ60 a0 1 v64).bind fun σ65 => k4 σ65 c62 e63) (fun k61 => if v2 = 0 then (k61 σ1 0 0) else (if (sIx 1 v2) < 0 then (k61 σ1 0 0) else ((gP σ1 a0 6 7 1).bind fun p67 => (gI σ1 p67 4 4 3).bind fun v68 => if v68 = 16 then ((gI σ1 a0 6 7 2).bind fun v69 => (g_X7_bad F σ1 a0 4 v69).bind fun σ70 => k4 σ70 0 0) else (k4 σ1 0 0)))))) else none
theorem w_X7_clause {B F : Nat} {d : Nat} {σ : MM} {a0 : Nat} {rf : Unit} {σf : MM} {kf nf : Nat} {Lc Ls : Nat} (hd : 394 ≤ d) (h : g_X7_clause F Lc Ls σ a0 = some (rf, σf, kf, nf)) : xMD B yX7_clause cX7_clause 4 none d Lc Ls kf nf [rv B a0] σ none σf := by
  refine xMD.of (by decide +kernel) (Nat.le_of_ble_eq_true rfl) (cat_rv cat_nil) (fun G C E => ?_)
  unfold g_X7_clause at h
  obtain ⟨-, h⟩ := r_ck h
  refine r_aload_n (pc := 0) (i := 0) C dX7_clause_0 rfl rfl ?_
  refine r_callVI (pc := 1) (As := []) (st := []) (hc := by omega) (hsl := by omega) C cs_X7_39_X7_here h (fun _ _ e => w_X7_here (Nat.le_refl 0) e) (fun _ _ e => t_X7_here e) (Nat.le_trans (Nat.le_of_ble_eq_true rfl) hd) (Nat.le_of_ble_eq_true rfl) dX7_clause_1 (fun v2 σ1 h => ?_)
  refine r_istore_n (pc := 4) (i := 1) C dX7_clause_4 rfl (by decide) ?_
  refine r_iload_n (pc := 5) (i := 1) C dX7_clause_5 rfl rfl ?_
  refine r_jn (fun k9 => ∀  (σ3 : MM) (c5 e6 : Nat), c5 ≤ Lc → e6 ≤ Ls → k9 σ3 c5 e6 = some (rf, σf, kf, nf) → xV B G c5 e6 σ3 51 [(0, rv B a0), (1, .int v2)] []) h (fun  σ3 c5 e6 hkc5 hne6 h => ?_) (fun k4 hk4 h => ?_)
  · refine r_aload_n (pc := 51) (i := 0) C dX7_clause_51 rfl rfl ?_
    refine r_callVI (pc := 52) (As := []) (st := []) (hc := by omega) (hsl := by omega) C cs_X7_43_X7_isGood h (fun _ _ e => w_X7_isGood (Nat.le_refl 0) e) (fun _ _ e => t_X7_isGood e) (Nat.le_trans (Nat.le_of_ble_eq_true rfl) hd) (Nat.le_of_ble_eq_true rfl) dX7_clause_52 (fun v8 σ7 h => ?_)
    refine r_ifne (pc := 55) (tgt := 59) C dX7_clause_55 (by decide) h (fun h => ?_) (fun h => ?_)
    · refine r_aload_n (pc := 59) (i := 0) C dX7_clause_59 rfl rfl ?_
      refine r_dup (pc := 60) C dX7_clause_60 ?_
      refine r_getI (pc := 61) C fd_X7_26 rfl dX7_clause_61 h (fun v9 h => ?_)
      refine r_iconst (pc := 64) (v := 1) C dX7_clause_64 (by decide) ?_
      refine r_iadd (pc := 65) C dX7_clause_65 ?_
      refine r_putI (pc := 66) C fd_X7_26 ft_X7_2 dX7_clause_66 h (fun σ10 h => ?_)
      refine r_aload_n (pc := 69) (i := 0) C dX7_clause_69 rfl rfl ?_
      refine r_iconst (pc := 70) (v := 0) C dX7_clause_70 (by decide) ?_
      refine r_putI (pc := 71) C fd_X7_54 ft_X7_3 dX7_clause_71 h (fun σ11 h => ?_)
      refine r_iload_n (pc := 74) (i := 1) C dX7_clause_74 rfl rfl ?_
      refine r_bipush (pc := 75) (v := 115) C dX7_clause_75 (by decide) ?_
      refine r_jn (fun k9 => ∀ (w13 : Nat) (σ12 : MM) (c15 e16 : Nat), c15 ≤ Lc → e16 ≤ Ls → k9 w13 σ12 c15 e16 = some (rf, σf, kf, nf) → xV B G c15 e16 σ12 88 [(0, rv B a0), (1, .int v2)] [rv B w13]) h (fun w13 σ12 c15 e16 hkc15 hne16 h => ?_) (fun k14 hk14 h => ?_)
      · refine r_astore_n (pc := 88) (i := 2) C dX7_clause_88 rfl (by decide) ?_
        refine r_aload_n (pc := 89) (i := 0) C dX7_clause_89 rfl rfl ?_
        refine r_callVI (pc := 90) (As := []) (st := []) (hc := by omega) (hsl := by omega) C cs_X7_43_X7_isGood h (fun _ _ e => w_X7_isGood (Nat.le_refl 0) e) (fun _ _ e => t_X7_isGood e) (Nat.le_trans (Nat.le_of_ble_eq_true rfl) hd) (Nat.le_of_ble_eq_true rfl) dX7_clause_90 (fun v18 σ17 h => ?_)
        refine r_jn (fun k9 => ∀  (σ19 : MM) (c21 e22 : Nat), c21 ≤ Lc → e22 ≤ Ls → k9 σ19 c21 e22 = some (rf, σf, kf, nf) → xV B G c21 e22 σ19 114 [(0, rv B a0), (1, .int v2), (2, rv B w13)] []) h (fun  σ19 c21 e22 hkc21 hne22 h => ?_) (fun k20 hk20 h => ?_)
        · refine r_aload_n (pc := 114) (i := 0) C dX7_clause_114 rfl rfl ?_
          refine r_callVI (pc := 115) (As := []) (st := []) (hc := by omega) (hsl := by omega) C cs_X7_43_X7_isGood h (fun _ _ e => w_X7_isGood (Nat.le_refl 0) e) (fun _ _ e => t_X7_isGood e) (Nat.le_trans (Nat.le_of_ble_eq_true rfl) hd) (Nat.le_of_ble_eq_true rfl) dX7_clause_115 (fun v24 σ23 h => ?_)
          refine r_jn (fun k9 => ∀ (w26 : Nat) (σ25 : MM) (c28 e29 : Nat), c28 ≤ Lc → e29 ≤ Ls → k9 w26 σ25 c28 e29 = some (rf, σf, kf, nf) → xV B G c28 e29 σ25 129 [(0, rv B a0), (1, .int v2), (2, rv B w13)] [rv B w26]) h (fun w26 σ25 c28 e29 hkc28 hne29 h => ?_) (fun k27 hk27 h => ?_)
          · refine r_astore_n (pc := 129) (i := 3) C dX7_clause_129 rfl (by decide) ?_
            refine r_aload_n (pc := 130) (i := 0) C dX7_clause_130 rfl rfl ?_
            refine r_getP (pc := 131) C fd_X7_18 rfl dX7_clause_131 h (fun p30 h => ?_)
            refine r_getP (pc := 134) C fd_X7_134 rfl dX7_clause_134 h (fun p31 h => ?_)
            refine r_aload_n (pc := 137) (i := 0) C dX7_clause_137 rfl rfl ?_
            refine r_getP (pc := 138) C fd_X7_18 rfl dX7_clause_138 h (fun p32 h => ?_)
            refine r_getI (pc := 141) C fd_X7_131 rfl dX7_clause_141 h (fun v33 h => ?_)
            refine r_iload_n (pc := 144) (i := 1) C dX7_clause_144 rfl rfl ?_
            refine r_iast (pc := 145) C dX7_clause_145 h (fun σ34 h => ?_)
            refine r_aload_n (pc := 146) (i := 0) C dX7_clause_146 rfl rfl ?_
            refine r_getP (pc := 147) C fd_X7_18 rfl dX7_clause_147 h (fun p35 h => ?_)
            refine r_getP (pc := 150) C fd_X7_138 rfl dX7_clause_150 h (fun p36 h => ?_)
            refine r_aload_n (pc := 153) (i := 0) C dX7_clause_153 rfl rfl ?_
            refine r_getP (pc := 154) C fd_X7_18 rfl dX7_clause_154 h (fun p37 h => ?_)
            refine r_getI (pc := 157) C fd_X7_131 rfl dX7_clause_157 h (fun v38 h => ?_)
            refine r_aload_n (pc := 160) (i := 2) C dX7_clause_160 rfl rfl ?_
            refine r_aast (pc := 161) (q := 0) (by decide) C (in_nest q1905 rfl) dX7_clause_161 h (fun σ39 h => ?_)
            refine r_aload_n (pc := 162) (i := 0) C dX7_clause_162 rfl rfl ?_
            refine r_getP (pc := 163) C fd_X7_18 rfl dX7_clause_163 h (fun p40 h => ?_)
            refine r_getP (pc := 166) C fd_X7_142 rfl dX7_clause_166 h (fun p41 h => ?_)
            refine r_aload_n (pc := 169) (i := 0) C dX7_clause_169 rfl rfl ?_
            refine r_getP (pc := 170) C fd_X7_18 rfl dX7_clause_170 h (fun p42 h => ?_)
            refine r_getI (pc := 173) C fd_X7_131 rfl dX7_clause_173 h (fun v43 h => ?_)
            refine r_aload_n (pc := 176) (i := 3) C dX7_clause_176 rfl rfl ?_
            refine r_aast (pc := 177) (q := 1) (by decide) C (in_nest q1908 rfl) dX7_clause_177 h (fun σ44 h => ?_)
            refine r_aload_n (pc := 178) (i := 0) C dX7_clause_178 rfl rfl ?_
            refine r_getP (pc := 179) C fd_X7_18 rfl dX7_clause_179 h (fun p45 h => ?_)
            refine r_dup (pc := 182) C dX7_clause_182 ?_
            refine r_getI (pc := 183) C fd_X7_131 rfl dX7_clause_183 h (fun v46 h => ?_)
            refine r_iconst (pc := 186) (v := 1) C dX7_clause_186 (by decide) ?_
            refine r_iadd (pc := 187) C dX7_clause_187 ?_
            refine r_putI (pc := 188) C fd_X7_131 ft_X5_3 dX7_clause_188 h (fun σ47 h => ?_)
            exact r_vretD (pc := 191) C rfl dX7_clause_191 h E
          · refine r_ifeq (pc := 118) (tgt := 128) C dX7_clause_118 (by decide) h (fun h => ?_) (fun h => ?_)
            · refine r_null (pc := 128) C dX7_clause_128 ?_
              refine r_pick (lv' := [(0, rv B a0), (1, .int v2), (2, rv B w13)]) [0, 1, 2] rfl ?_
              exact hk27 _ _ _ _ (by omega) (by omega) h
            · refine r_aload_n (pc := 121) (i := 0) C dX7_clause_121 rfl rfl ?_
              refine r_callVDP (pc := 122) (As := []) (st := []) C cs_X7_110_X7_condition rfl (lw_V q626 q628 qs13 q123 q629) h (fun _ _ _ _ e => w_X7_condition (Nat.le_refl 393) e) (fun _ _ _ _ e => t_X7_condition e) (Nat.le_trans (Nat.le_of_ble_eq_true rfl) hd) (Nat.le_of_ble_eq_true rfl) dX7_clause_122 (by omega) (by omega) (fun p49 σ48 c50 e51 hc50 he51 h => ?_)
              refine r_goto (pc := 125) (tgt := 129) C dX7_clause_125 (by decide) ?_
              refine r_pick (lv' := [(0, rv B a0), (1, .int v2), (2, rv B w13)]) [0, 1, 2] rfl ?_
              exact hk27 _ _ _ _ (by omega) (by omega) h
        · refine r_ifeq (pc := 93) (tgt := 114) C dX7_clause_93 (by decide) h (fun h => ?_) (fun h => ?_)
          · refine r_pick (lv' := [(0, rv B a0), (1, .int v2), (2, rv B w13)]) [0, 1, 2] rfl ?_
            exact hk20 _ _ _ (by omega) (by omega) h
          · refine r_aload_n (pc := 96) (i := 0) C dX7_clause_96 rfl rfl ?_
            refine r_callVI (pc := 97) (As := []) (st := []) (hc := by omega) (hsl := by omega) C cs_X7_39_X7_here h (fun _ _ e => w_X7_here (Nat.le_refl 0) e) (fun _ _ e => t_X7_here e) (Nat.le_trans (Nat.le_of_ble_eq_true rfl) hd) (Nat.le_of_ble_eq_true rfl) dX7_clause_97 (fun v53 σ52 h => ?_)
            refine r_bipush (pc := 100) (v := 40) C dX7_clause_100 (by decide) ?_
            refine r_icmpeq (pc := 102) (tgt := 114) C dX7_clause_102 (by decide) h (fun h => ?_) (fun h => ?_)
            · refine r_pick (lv' := [(0, rv B a0), (1, .int v2), (2, rv B w13)]) [0, 1, 2] rfl ?_
              exact hk20 _ _ _ (by omega) (by omega) h
            · refine r_aload_n (pc := 105) (i := 0) C dX7_clause_105 rfl rfl ?_
              refine r_iconst (pc := 106) (v := 1) C dX7_clause_106 (by decide) ?_
              refine r_aload_n (pc := 107) (i := 0) C dX7_clause_107 rfl rfl ?_
              refine r_getI (pc := 108) C fd_X7_26 rfl dX7_clause_108 h (fun v54 h => ?_)
              refine r_callVV (pc := 111) (As := [.int 1, .int v54]) (st := []) (hc := by omega) (hsl := by omega) C cs_X7_50_X7_bad h (fun _ e => w_X7_bad (Nat.le_refl 0) e) (fun _ e => t_X7_bad e) (Nat.le_trans (Nat.le_of_ble_eq_true rfl) hd) (Nat.le_of_ble_eq_true rfl) dX7_clause_111 (fun σ55 h => ?_)
              refine r_pick (lv' := [(0, rv B a0), (1, .int v2), (2, rv B w13)]) [0, 1, 2] rfl ?_
              exact hk20 _ _ _ (by omega) (by omega) h
      · refine r_icmpne (pc := 77) (tgt := 84) C dX7_clause_77 (by decide) h (fun h => ?_) (fun h => ?_)
        · refine r_aload_n (pc := 84) (i := 0) C dX7_clause_84 rfl rfl ?_
          refine r_callVDP (pc := 85) (As := []) (st := []) C cs_X7_60_X7_sum rfl (lw_V q557 q559 qs6 q123 q560) h (fun _ _ _ _ e => w_X7_sum (Nat.le_refl 198) e) (fun _ _ _ _ e => t_X7_sum e) (Nat.le_trans (Nat.le_of_ble_eq_true rfl) hd) (Nat.le_of_ble_eq_true rfl) dX7_clause_85 (by omega) (by omega) (fun p57 σ56 c58 e59 hc58 he59 h => ?_)
          refine r_pick (lv' := [(0, rv B a0), (1, .int v2)]) [0, 1] rfl ?_
          exact hk14 _ _ _ _ (by omega) (by omega) h
        · refine r_null (pc := 80) C dX7_clause_80 ?_
          refine r_goto (pc := 81) (tgt := 88) C dX7_clause_81 (by decide) ?_
          refine r_pick (lv' := [(0, rv B a0), (1, .int v2)]) [0, 1] rfl ?_
          exact hk14 _ _ _ _ (by omega) (by omega) h
    · exact r_vretD (pc := 58) C rfl dX7_clause_58 h E
  · refine r_jn (fun k9 => ∀  (σ60 : MM) (c62 e63 : Nat), c62 ≤ Lc → e63 ≤ Ls → k9 σ60 c62 e63 = some (rf, σf, kf, nf) → xV B G c62 e63 σ60 18 [(0, rv B a0), (1, .int v2)] []) h (fun  σ60 c62 e63 hkc62 hne63 h => ?_) (fun k61 hk61 h => ?_)
    · refine r_aload_n (pc := 18) (i := 0) C dX7_clause_18 rfl rfl ?_
      refine r_iconst (pc := 19) (v := 1) C dX7_clause_19 (by decide) ?_
      refine r_aload_n (pc := 20) (i := 0) C dX7_clause_20 rfl rfl ?_
      refine r_getI (pc := 21) C fd_X7_26 rfl dX7_clause_21 h (fun v64 h => ?_)
      refine r_callVV (pc := 24) (As := [.int 1, .int v64]) (st := []) (hc := by omega) (hsl := by omega) C cs_X7_50_X7_bad h (fun _ e => w_X7_bad (Nat.le_refl 0) e) (fun _ e => t_X7_bad e) (Nat.le_trans (Nat.le_of_ble_eq_true rfl) hd) (Nat.le_of_ble_eq_true rfl) dX7_clause_24 (fun σ65 h => ?_)
      refine r_goto (pc := 27) (tgt := 51) C dX7_clause_27 (by decide) ?_
      refine r_pick (lv' := [(0, rv B a0), (1, .int v2)]) [0, 1] rfl ?_
      exact hk4 _ _ _ (by omega) (by omega) h
    · refine r_ifeq (pc := 6) (tgt := 18) C dX7_clause_6 (by decide) h (fun h => ?_) (fun h => ?_)
      · refine r_pick (lv' := [(0, rv B a0), (1, .int v2)]) [0, 1] rfl ?_
        exact hk61 _ _ _ (by omega) (by omega) h
      · refine r_ldcs (pc := 9) (i := 1) C rfl (Or.inr ⟨rfl, rfl⟩) dX7_clause_9 ?_
        refine r_iload_n (pc := 11) (i := 1) C dX7_clause_11 rfl rfl ?_
        refine r_callX (pc := 12) (As := [.int v2]) (st := []) (i := 1) (by decide) C (m_indexOf 1 (by decide) v2) rfl rfl yd_J0_indexOf (lw_V q467 q468 q469 q124 q470) (Nat.le_trans (Nat.le_of_ble_eq_true rfl) hd) (Nat.le_of_ble_eq_true rfl) (Nat.le_of_ble_eq_true rfl) dX7_clause_12 (by omega) (by omega) ?_
        refine r_ifge (pc := 15) (tgt := 30) C dX7_clause_15 (by decide) h (fun h => ?_) (fun h => ?_)
        · refine r_aload_n (pc := 30) (i := 0) C dX7_clause_30 rfl rfl ?_
          refine r_getP (pc := 31) C fd_X7_18 rfl dX7_clause_31 h (fun p67 h => ?_)
          refine r_getI (pc := 34) C fd_X7_131 rfl dX7_clause_34 h (fun v68 h => ?_)
          refine r_bipush (pc := 37) (v := 16) C dX7_clause_37 (by decide) ?_
          refine r_icmpne (pc := 39) (tgt := 51) C dX7_clause_39 (by decide) h (fun h => ?_) (fun h => ?_)
          · refine r_pick (lv' := [(0, rv B a0), (1, .int v2)]) [0, 1] rfl ?_
            exact hk4 _ _ _ (by omega) (by omega) h
          · refine r_aload_n (pc := 42) (i := 0) C dX7_clause_42 rfl rfl ?_
            refine r_iconst (pc := 43) (v := 4) C dX7_clause_43 (by decide) ?_
            refine r_aload_n (pc := 44) (i := 0) C dX7_clause_44 rfl rfl ?_
            refine r_getI (pc := 45) C fd_X7_26 rfl dX7_clause_45 h (fun v69 h => ?_)
            refine r_callVV (pc := 48) (As := [.int 4, .int v69]) (st := []) (hc := by omega) (hsl := by omega) C cs_X7_50_X7_bad h (fun _ e => w_X7_bad (Nat.le_refl 0) e) (fun _ e => t_X7_bad e) (Nat.le_trans (Nat.le_of_ble_eq_true rfl) hd) (Nat.le_of_ble_eq_true rfl) dX7_clause_48 (fun σ70 h => ?_)
            refine r_pick (lv' := [(0, rv B a0), (1, .int v2)]) [0, 1] rfl ?_
            exact hk4 _ _ _ (by omega) (by omega) h
        · refine r_pick (lv' := [(0, rv B a0), (1, .int v2)]) [0, 1] rfl ?_
          exact hk61 _ _ _ (by omega) (by omega) h
theorem t_X7_clause {F : Nat} {Lc Ls : Nat} {σ : MM} {a0 : Nat} {r : Unit × MM × Nat × Nat} (h : g_X7_clause F Lc Ls σ a0 = some r) : mT σ a0 = (6, 7) := by
  unfold g_X7_clause at h
  exact (r_ck h).1
theorem yd_X7_clause : xYd yX7_clause 0 := ⟨by decide +kernel, by decide +kernel, by decide +kernel⟩
theorem cs_X7_146_X7_clause : xCV RX7 146 yX7_clause cX7_clause 4 none 6 7 0 := ⟨by decide, by decide, _, rfl, yd_X7_clause, Or.inl ⟨rfl, lw_V q458 q460 qs3 q123 q461⟩⟩
def l_X7_read_2 (Lc Ls : Nat) (K : MM → Nat → Nat → Option (Int32 × MM × Nat × Nat)) (F : Nat) (a0 : Nat) : Nat → Int32 → MM → Nat → Nat → Option (Int32 × MM × Nat × Nat)
  | 0, _, _, _, _ => none
  | f + 1, z1, σ, k, n => if z1 = 0 then (K σ k n) else (bq (g_X7_isGood F σ a0) fun v2 σ1 => if v2 = 0 then (K σ1 k n) else (bc (Lc - k) (Ls - n) (g_X7_clause F (Lc - k) (Ls - n) σ1 a0) fun u4 σ3 c5 e6 => bq (g_X7_isGood F σ3 a0) fun v8 σ7 => jn (fun (w10 : Int32) (σ9 : MM) (c12 e13 : Nat) => if w10 = 0 then (l_X7_read_2 Lc Ls K F a0 f w10 σ9 c12 e13) else ((g_X7_must F σ9 a0 59).bind fun σ14 => l_X7_read_2 Lc Ls K F a0 f w10 σ14 c12 e13)) (fun k11 => if v8 = 0 then (k11 0 σ7 ((k + c5)) ((n + e6))) else ((gI σ7 a0 6 7 2).bind fun v15 => (gI σ7 a0 6 7 0).bind fun v16 => if v15 < v16 then (k11 1 σ7 ((k + c5)) ((n + e6))) else (k11 0 σ7 ((k + c5)) ((n + e6)))))))
def g_X7_read (F : Nat) (Lc Ls : Nat) (σ : MM) (a0 : Nat) : Option (Int32 × MM × Nat × Nat) := if mT σ a0 = (6, 7) then (l_X7_read_2 Lc Ls (fun (σ17 : MM) (c18 e19 : Nat) => bq (g_X7_isGood F σ17 a0) fun v21 σ20 => if v21 = 0 then ((gI σ20 a0 6 7 4).bind fun v22 => (gI σ20 a0 6 7 5).bind fun v23 => some ((((-1000) * v22) - v23), σ20, c18, e19)) else ((gP σ20 a0 6 7 1).bind fun p24 => (gI σ20 p24 4 4 3).bind fun v25 => some (v25, σ20, c18, e19))) F a0 F 1 σ 0 0) else none
theorem wl_X7_read_2 {B : Nat} {G : XG} {d : Nat} {rf : Int32} {σf : MM} {kf nf : Nat} {Lc Ls : Nat} (hd : 395 ≤ d) (C : xC B G yX7_read cX7_read 2 (some .int) d Lc Ls) (E : xEnd B G (some (.int rf)) σf kf nf) {K : MM → Nat → Nat → Option (Int32 × MM × Nat × Nat)} {F : Nat} {a0 : Nat} (hK : ∀ (σ : MM) (k n : Nat), k ≤ Lc → n ≤ Ls → K σ k n = some (rf, σf, kf, nf) → xV B G k n σ 54 [(0, rv B a0)] []) : ∀ (f : Nat) (z1 : Int32) (σ : MM) (k n : Nat), k ≤ Lc → n ≤ Ls → l_X7_read_2 Lc Ls K F a0 f z1 σ k n = some (rf, σf, kf, nf) → xV B G k n σ 2 [(0, rv B a0), (1, .int z1)] [] := by
  intro f
  induction f with
  | zero =>
    intro z1 σ k n hk hn h
    have h : none = some (rf, σf, kf, nf) := h
    cases h
  | succ f ih =>
    intro z1 σ k n hk hn h
    rw [l_X7_read_2.eq_2] at h
    refine r_iload_n (pc := 2) (i := 1) C dX7_read_2 rfl rfl ?_
    refine r_ifeq (pc := 3) (tgt := 54) C dX7_read_3 (by decide) h (fun h => ?_) (fun h => ?_)
    · refine r_pick (lv' := [(0, rv B a0)]) [0] rfl ?_
      exact hK _ _ _ (by omega) (by omega) h
    · refine r_aload_n (pc := 6) (i := 0) C dX7_read_6 rfl rfl ?_
      refine r_callVI (pc := 7) (As := []) (st := []) (hc := by omega) (hsl := by omega) C cs_X7_43_X7_isGood h (fun _ _ e => w_X7_isGood (Nat.le_refl 0) e) (fun _ _ e => t_X7_isGood e) (Nat.le_trans (Nat.le_of_ble_eq_true rfl) hd) (Nat.le_of_ble_eq_true rfl) dX7_read_7 (fun v2 σ1 h => ?_)
      refine r_ifeq (pc := 10) (tgt := 54) C dX7_read_10 (by decide) h (fun h => ?_) (fun h => ?_)
      · refine r_pick (lv' := [(0, rv B a0)]) [0] rfl ?_
        exact hK _ _ _ (by omega) (by omega) h
      · refine r_aload_n (pc := 13) (i := 0) C dX7_read_13 rfl rfl ?_
        refine r_callVDV (pc := 14) (As := []) (st := []) C cs_X7_146_X7_clause rfl (lw_V q458 q460 qs3 q123 q461) h (fun _ _ _ _ e => w_X7_clause (Nat.le_refl 394) e) (fun _ _ _ _ e => t_X7_clause e) (Nat.le_trans (Nat.le_of_ble_eq_true rfl) hd) (Nat.le_of_ble_eq_true rfl) dX7_read_14 (by omega) (by omega) (fun u4 σ3 c5 e6 hc5 he6 h => ?_)
        refine r_aload_n (pc := 17) (i := 0) C dX7_read_17 rfl rfl ?_
        refine r_callVI (pc := 18) (As := []) (st := []) (hc := by omega) (hsl := by omega) C cs_X7_43_X7_isGood h (fun _ _ e => w_X7_isGood (Nat.le_refl 0) e) (fun _ _ e => t_X7_isGood e) (Nat.le_trans (Nat.le_of_ble_eq_true rfl) hd) (Nat.le_of_ble_eq_true rfl) dX7_read_18 (fun v8 σ7 h => ?_)
        refine r_jn (fun k9 => ∀ (w10 : Int32) (σ9 : MM) (c12 e13 : Nat), c12 ≤ Lc → e13 ≤ Ls → k9 w10 σ9 c12 e13 = some (rf, σf, kf, nf) → xV B G c12 e13 σ9 40 [(0, rv B a0)] [.int w10]) h (fun w10 σ9 c12 e13 hkc12 hne13 h => ?_) (fun k11 hk11 h => ?_)
        · refine r_istore_n (pc := 40) (i := 1) C dX7_read_40 rfl (by decide) ?_
          refine r_iload_n (pc := 41) (i := 1) C dX7_read_41 rfl rfl ?_
          refine r_ifeq (pc := 42) (tgt := 2) C dX7_read_42 (by decide) h (fun h => ?_) (fun h => ?_)
          · refine r_pick (lv' := [(0, rv B a0), (1, .int w10)]) [0, 1] rfl ?_
            exact ih _ _ _ _ (by omega) (by omega) h
          · refine r_aload_n (pc := 45) (i := 0) C dX7_read_45 rfl rfl ?_
            refine r_bipush (pc := 46) (v := 59) C dX7_read_46 (by decide) ?_
            refine r_callVV (pc := 48) (As := [.int 59]) (st := []) (hc := by omega) (hsl := by omega) C cs_X7_64_X7_must h (fun _ e => w_X7_must (Nat.le_refl 1) e) (fun _ e => t_X7_must e) (Nat.le_trans (Nat.le_of_ble_eq_true rfl) hd) (Nat.le_of_ble_eq_true rfl) dX7_read_48 (fun σ14 h => ?_)
            refine r_goto (pc := 51) (tgt := 2) C dX7_read_51 (by decide) ?_
            refine r_pick (lv' := [(0, rv B a0), (1, .int w10)]) [0, 1] rfl ?_
            exact ih _ _ _ _ (by omega) (by omega) h
        · refine r_ifeq (pc := 21) (tgt := 39) C dX7_read_21 (by decide) h (fun h => ?_) (fun h => ?_)
          · refine r_iconst (pc := 39) (v := 0) C dX7_read_39 (by decide) ?_
            refine r_pick (lv' := [(0, rv B a0)]) [0] rfl ?_
            exact hk11 _ _ _ _ (by omega) (by omega) h
          · refine r_aload_n (pc := 24) (i := 0) C dX7_read_24 rfl rfl ?_
            refine r_getI (pc := 25) C fd_X7_26 rfl dX7_read_25 h (fun v15 h => ?_)
            refine r_aload_n (pc := 28) (i := 0) C dX7_read_28 rfl rfl ?_
            refine r_getI (pc := 29) C fd_X7_22 rfl dX7_read_29 h (fun v16 h => ?_)
            refine r_icmpge (pc := 32) (tgt := 39) C dX7_read_32 (by decide) h (fun h => ?_) (fun h => ?_)
            · refine r_iconst (pc := 39) (v := 0) C dX7_read_39 (by decide) ?_
              refine r_pick (lv' := [(0, rv B a0)]) [0] rfl ?_
              exact hk11 _ _ _ _ (by omega) (by omega) h
            · refine r_iconst (pc := 35) (v := 1) C dX7_read_35 (by decide) ?_
              refine r_goto (pc := 36) (tgt := 40) C dX7_read_36 (by decide) ?_
              refine r_pick (lv' := [(0, rv B a0)]) [0] rfl ?_
              exact hk11 _ _ _ _ (by omega) (by omega) h
theorem w_X7_read {B F : Nat} {d : Nat} {σ : MM} {a0 : Nat} {rf : Int32} {σf : MM} {kf nf : Nat} {Lc Ls : Nat} (hd : 395 ≤ d) (h : g_X7_read F Lc Ls σ a0 = some (rf, σf, kf, nf)) : xMD B yX7_read cX7_read 2 (some .int) d Lc Ls kf nf [rv B a0] σ (some (.int rf)) σf := by
  refine xMD.of (by decide +kernel) (Nat.le_of_ble_eq_true rfl) (cat_rv cat_nil) (fun G C E => ?_)
  unfold g_X7_read at h
  obtain ⟨-, h⟩ := r_ck h
  refine r_iconst (pc := 0) (v := 1) C dX7_read_0 (by decide) ?_
  refine r_istore_n (pc := 1) (i := 1) C dX7_read_1 rfl (by decide) ?_
  refine r_pick (lv' := [(0, rv B a0), (1, .int 1)]) [0, 1] rfl ?_
  refine wl_X7_read_2 hd C E (fun  σ17 c18 e19 hkc18 hne19 h => ?_) _ _ _ _ _ (by omega) (by omega) h
  refine r_aload_n (pc := 54) (i := 0) C dX7_read_54 rfl rfl ?_
  refine r_callVI (pc := 55) (As := []) (st := []) (hc := by omega) (hsl := by omega) C cs_X7_43_X7_isGood h (fun _ _ e => w_X7_isGood (Nat.le_refl 0) e) (fun _ _ e => t_X7_isGood e) (Nat.le_trans (Nat.le_of_ble_eq_true rfl) hd) (Nat.le_of_ble_eq_true rfl) dX7_read_55 (fun v21 σ20 h => ?_)
  refine r_ifeq (pc := 58) (tgt := 71) C dX7_read_58 (by decide) h (fun h => ?_) (fun h => ?_)
  · refine r_sipush (pc := 71) (v := (-1000)) C dX7_read_71 (by decide) ?_
    refine r_aload_n (pc := 74) (i := 0) C dX7_read_74 rfl rfl ?_
    refine r_getI (pc := 75) C fd_X7_33 rfl dX7_read_75 h (fun v22 h => ?_)
    refine r_imul (pc := 78) C dX7_read_78 ?_
    refine r_aload_n (pc := 79) (i := 0) C dX7_read_79 rfl rfl ?_
    refine r_getI (pc := 80) C fd_X7_36 rfl dX7_read_80 h (fun v23 h => ?_)
    refine r_isub (pc := 83) C dX7_read_83 ?_
    exact r_iretD (pc := 84) C rfl dX7_read_84 h E
  · refine r_aload_n (pc := 61) (i := 0) C dX7_read_61 rfl rfl ?_
    refine r_getP (pc := 62) C fd_X7_18 rfl dX7_read_62 h (fun p24 h => ?_)
    refine r_getI (pc := 65) C fd_X7_131 rfl dX7_read_65 h (fun v25 h => ?_)
    refine r_goto (pc := 68) (tgt := 84) C dX7_read_68 (by decide) ?_
    exact r_iretD (pc := 84) C rfl dX7_read_84 h E
theorem t_X7_read {F : Nat} {Lc Ls : Nat} {σ : MM} {a0 : Nat} {r : Int32 × MM × Nat × Nat} (h : g_X7_read F Lc Ls σ a0 = some r) : mT σ a0 = (6, 7) := by
  unfold g_X7_read at h
  exact (r_ck h).1
theorem xcl_X7 : xCl 6 7 RX7 := classCl _ rfl rfl rfl (by decide) in_X7 tyX7_ok (by decide +kernel)
theorem yd_X7_init : xYd yX7_init 2 := ⟨by decide +kernel, by decide +kernel, by decide +kernel⟩
theorem cs_X0_152_X7_init : xCI RX0 152 yX7_init cX7_init 3 2 := ⟨by decide, rfl, yd_X7_init, lw_meth q423, q123, q422, Or.inl q421⟩
theorem yd_X7_read : xYd yX7_read 0 := ⟨by decide +kernel, by decide +kernel, by decide +kernel⟩
theorem cs_X0_155_X7_read : xCV RX0 155 yX7_read cX7_read 2 (some .int) 6 7 0 := ⟨by decide, by decide, _, rfl, yd_X7_read, Or.inl ⟨rfl, lw_V q450 q451 q452 q123 q453⟩⟩
theorem fd_X0_159 : xFg RX0 159 6 7 1 := ⟨_, rfl, rfl, by decide, by decide, in_X7, Or.inr ⟨_, in_nest q429 rfl⟩⟩
def g_X0_law (F : Nat) (Lc Ls : Nat) (σ : MM) (a0 : Nat) (x1 : Int32) : Option (Int32 × MM × Nat × Nat) := if mT σ a0 = (0, 22) then (bq (g_X0_within F σ x1 1 240) fun v2 σ1 => if v2 = 0 then (some ((-1), σ1, 0, 0)) else ((gI σ1 a0 0 22 9).bind fun v3 => if v3 < x1 then (some ((-1), σ1, 0, 0)) else ((pI σ1 a0 0 22 9 0).bind fun σ4 => nwL (0 + 1 ≤ Lc ∧ 0 + 7 ≤ Ls) σ4 (6, 7) fun p5 σ6 => if (0 + 1) + 4 ≤ Lc ∧ (0 + 7) + 52 ≤ Ls then ((g_X7_init F σ6 p5 a0 x1).bind fun σ7 => bc (Lc - ((0 + 1) + 4)) (Ls - ((0 + 7) + 52)) (g_X7_read F (Lc - ((0 + 1) + 4)) (Ls - ((0 + 7) + 52)) σ7 p5) fun v9 σ8 c10 e11 => if v9 < 0 then (some (v9, σ8, (((0 + 1) + 4) + c10), (((0 + 7) + 52) + e11))) else ((gP σ8 p5 6 7 1).bind fun p12 => (pP σ8 a0 0 22 8 p12).bind fun σ13 => some (v9, σ13, (((0 + 1) + 4) + c10), (((0 + 7) + 52) + e11)))) else none))) else none
theorem w_X0_law {B F : Nat} {d : Nat} {σ : MM} {a0 : Nat} {x1 : Int32} {rf : Int32} {σf : MM} {kf nf : Nat} {Lc Ls : Nat} (hd : 396 ≤ d) (h : g_X0_law F Lc Ls σ a0 x1 = some (rf, σf, kf, nf)) : xMD B yX0_law cX0_law 4 (some .int) d Lc Ls kf nf [rv B a0, .int x1] σ (some (.int rf)) σf := by
  refine xMD.of (by decide +kernel) (Nat.le_of_ble_eq_true rfl) (cat_rv (cat_int cat_nil)) (fun G C E => ?_)
  unfold g_X0_law at h
  obtain ⟨-, h⟩ := r_ck h
  refine r_iload_n (pc := 0) (i := 1) C dX0_law_0 rfl rfl ?_
  refine r_iconst (pc := 1) (v := 1) C dX0_law_1 (by decide) ?_
  refine r_sipush (pc := 2) (v := 240) C dX0_law_2 (by decide) ?_
  refine r_callSI (pc := 5) (As := [.int x1, .int 1, .int 240]) (st := []) (hc := by omega) (hsl := by omega) C cs_X0_127_X0_within h (fun _ _ e => w_X0_within (Nat.le_refl 0) e) (Nat.le_trans (Nat.le_of_ble_eq_true rfl) hd) (Nat.le_of_ble_eq_true rfl) dX0_law_5 (fun v2 σ1 h => ?_)
  refine r_ifeq (pc := 8) (tgt := 19) C dX0_law_8 (by decide) h (fun h => ?_) (fun h => ?_)
  · refine r_iconst (pc := 19) (v := (-1)) C dX0_law_19 (by decide) ?_
    exact r_iretD (pc := 20) C rfl dX0_law_20 h E
  · refine r_iload_n (pc := 11) (i := 1) C dX0_law_11 rfl rfl ?_
    refine r_aload_n (pc := 12) (i := 0) C dX0_law_12 rfl rfl ?_
    refine r_getI (pc := 13) C fd_X0_143 rfl dX0_law_13 h (fun v3 h => ?_)
    refine r_icmple (pc := 16) (tgt := 21) C dX0_law_16 (by decide) h (fun h => ?_) (fun h => ?_)
    · refine r_aload_n (pc := 21) (i := 0) C dX0_law_21 rfl rfl ?_
      refine r_iconst (pc := 22) (v := 0) C dX0_law_22 (by decide) ?_
      refine r_putI (pc := 23) C fd_X0_143 ft_X0_9 dX0_law_23 h (fun σ4 h => ?_)
      refine r_newL (pc := 26) C xcl_X7 q419 q420 q123 dX0_law_26 rfl rfl (fun ho => ho) h (fun p5 σ6 hop5 h => ?_)
      refine r_dup (pc := 29) C dX0_law_29 ?_
      refine r_aload_n (pc := 30) (i := 0) C dX0_law_30 rfl rfl ?_
      refine r_iload_n (pc := 31) (i := 1) C dX0_law_31 rfl rfl ?_
      obtain ⟨hrm, h⟩ := r_ck h
      refine r_callI (pc := 32) (As := [rv B a0, .int x1]) (st := [rv B p5]) C cs_X0_152_X7_init h (fun _ e => w_X7_init (Nat.le_refl 2) e) (fun _ e => by rw [t_X7_init e]; decide) (Nat.le_trans (Nat.le_of_ble_eq_true rfl) hd) hrm.1 hrm.2 rfl rfl (Nat.le_of_ble_eq_true rfl) dX0_law_32 (fun σ7 h => ?_)
      refine r_astore_n (pc := 35) (i := 2) C dX0_law_35 rfl (by decide) ?_
      refine r_aload_n (pc := 36) (i := 2) C dX0_law_36 rfl rfl ?_
      refine r_callVDI (pc := 37) (As := []) (st := []) C cs_X0_155_X7_read rfl (lw_V q450 q451 q452 q123 q453) h (fun _ _ _ _ e => w_X7_read (Nat.le_refl 395) e) (fun _ _ _ _ e => t_X7_read e) (Nat.le_trans (Nat.le_of_ble_eq_true rfl) hd) (Nat.le_of_ble_eq_true rfl) dX0_law_37 (by omega) (by omega) (fun v9 σ8 c10 e11 hc10 he11 h => ?_)
      refine r_istore_n (pc := 40) (i := 3) C dX0_law_40 rfl (by decide) ?_
      refine r_iload_n (pc := 41) (i := 3) C dX0_law_41 rfl rfl ?_
      refine r_iflt (pc := 42) (tgt := 53) C dX0_law_42 (by decide) h (fun h => ?_) (fun h => ?_)
      · refine r_iload_n (pc := 53) (i := 3) C dX0_law_53 rfl rfl ?_
        exact r_iretD (pc := 54) C rfl dX0_law_54 h E
      · refine r_aload_n (pc := 45) (i := 0) C dX0_law_45 rfl rfl ?_
        refine r_aload_n (pc := 46) (i := 2) C dX0_law_46 rfl rfl ?_
        refine r_getP (pc := 47) C fd_X0_159 rfl dX0_law_47 h (fun p12 h => ?_)
        refine r_putP (pc := 50) C fd_X0_83 ft_X0_8 dX0_law_50 h (fun σ13 h => ?_)
        refine r_iload_n (pc := 53) (i := 3) C dX0_law_53 rfl rfl ?_
        exact r_iretD (pc := 54) C rfl dX0_law_54 h E
    · refine r_iconst (pc := 19) (v := (-1)) C dX0_law_19 (by decide) ?_
      exact r_iretD (pc := 20) C rfl dX0_law_20 h E
theorem t_X0_law {F : Nat} {Lc Ls : Nat} {σ : MM} {a0 : Nat} {x1 : Int32} {r : Int32 × MM × Nat × Nat} (h : g_X0_law F Lc Ls σ a0 x1 = some r) : mT σ a0 = (0, 22) := by
  unfold g_X0_law at h
  exact (r_ck h).1
