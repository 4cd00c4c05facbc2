set_option maxRecDepth 100000
def g_X6_owes (F : Nat) (σ : MM) (a0 : Nat) (x1 : Int32) (x2 : Int32) : Option (Int32 × MM) := if mT σ a0 = (5, 62) then (bq (g_X6_areTwo F σ a0 x1 x2) fun v2 σ1 => if v2 = 0 then (some ((-1), σ1)) else (bq (g_X6_debtOf F σ1 a0 x1 x2) fun v4 σ3 => some (v4, σ3))) else none
theorem w_X6_owes {B F : Nat} {d : Nat} {σ : MM} {a0 : Nat} {x1 : Int32} {x2 : Int32} {rf : Int32} {σf : MM} (hd : 3 ≤ d) (h : g_X6_owes F σ a0 x1 x2 = some (rf, σf)) : xMA B yX6_owes cX6_owes 3 (some .int) d 0 0 [rv B a0, .int x1, .int x2] σ (some (.int rf)) σf := by
  refine xMA.of (by decide +kernel) (Nat.le_of_ble_eq_true rfl) (cat_rv (cat_int (cat_int cat_nil))) (fun G C E => ?_)
  unfold g_X6_owes at h
  obtain ⟨-, h⟩ := r_ck h
  refine r_aload_n (pc := 0) (i := 0) C dX6_owes_0 rfl rfl ?_
  refine r_iload_n (pc := 1) (i := 1) C dX6_owes_1 rfl rfl ?_
  refine r_iload_n (pc := 2) (i := 2) C dX6_owes_2 rfl rfl ?_
  refine r_callVI (pc := 3) (As := [.int x1, .int x2]) (st := []) C cs_X6_153_X6_areTwo h (fun _ _ e => w_X6_areTwo (Nat.le_refl 2) e) (fun _ _ e => t_X6_areTwo e) (Nat.le_trans (Nat.le_of_ble_eq_true rfl) hd) (Nat.le_of_ble_eq_true rfl) dX6_owes_3 (fun v2 σ1 h => ?_)
  refine r_ifeq (pc := 6) (tgt := 18) C dX6_owes_6 (by decide) h (fun h => ?_) (fun h => ?_)
  · refine r_iconst (pc := 18) (v := (-1)) C dX6_owes_18 (by decide) ?_
    exact r_iret (pc := 19) C rfl dX6_owes_19 h E
  · refine r_aload_n (pc := 9) (i := 0) C dX6_owes_9 rfl rfl ?_
    refine r_iload_n (pc := 10) (i := 1) C dX6_owes_10 rfl rfl ?_
    refine r_iload_n (pc := 11) (i := 2) C dX6_owes_11 rfl rfl ?_
    refine r_callVI (pc := 12) (As := [.int x1, .int x2]) (st := []) C cs_X6_147_X6_debtOf h (fun _ _ e => w_X6_debtOf (Nat.le_refl 0) e) (fun _ _ e => t_X6_debtOf e) (Nat.le_trans (Nat.le_of_ble_eq_true rfl) hd) (Nat.le_of_ble_eq_true rfl) dX6_owes_12 (fun v4 σ3 h => ?_)
    refine r_goto (pc := 15) (tgt := 19) C dX6_owes_15 (by decide) ?_
    exact r_iret (pc := 19) C rfl dX6_owes_19 h E
theorem t_X6_owes {F : Nat} {σ : MM} {a0 : Nat} {x1 : Int32} {x2 : Int32} {r : Int32 × MM} (h : g_X6_owes F σ a0 x1 x2 = some r) : mT σ a0 = (5, 62) := by
  unfold g_X6_owes at h
  exact (r_ck h).1
def g_X6_likes (F : Nat) (σ : MM) (a0 : Nat) (x1 : Int32) (x2 : Int32) : Option (Int32 × MM) := if mT σ a0 = (5, 62) then (bq (g_X6_areTwo F σ a0 x1 x2) fun v2 σ1 => if v2 = 0 then (some ((-1), σ1)) else (bq (g_X6_likesBy F σ1 a0 x1 x2) fun v4 σ3 => some (v4, σ3))) else none
theorem w_X6_likes {B F : Nat} {d : Nat} {σ : MM} {a0 : Nat} {x1 : Int32} {x2 : Int32} {rf : Int32} {σf : MM} (hd : 4 ≤ d) (h : g_X6_likes F σ a0 x1 x2 = some (rf, σf)) : xMA B yX6_likes cX6_likes 3 (some .int) d 0 0 [rv B a0, .int x1, .int x2] σ (some (.int rf)) σf := by
  refine xMA.of (by decide +kernel) (Nat.le_of_ble_eq_true rfl) (cat_rv (cat_int (cat_int cat_nil))) (fun G C E => ?_)
  unfold g_X6_likes at h
  obtain ⟨-, h⟩ := r_ck h
  refine r_aload_n (pc := 0) (i := 0) C dX6_likes_0 rfl rfl ?_
  refine r_iload_n (pc := 1) (i := 1) C dX6_likes_1 rfl rfl ?_
  refine r_iload_n (pc := 2) (i := 2) C dX6_likes_2 rfl rfl ?_
  refine r_callVI (pc := 3) (As := [.int x1, .int x2]) (st := []) C cs_X6_153_X6_areTwo h (fun _ _ e => w_X6_areTwo (Nat.le_refl 2) e) (fun _ _ e => t_X6_areTwo e) (Nat.le_trans (Nat.le_of_ble_eq_true rfl) hd) (Nat.le_of_ble_eq_true rfl) dX6_likes_3 (fun v2 σ1 h => ?_)
  refine r_ifeq (pc := 6) (tgt := 18) C dX6_likes_6 (by decide) h (fun h => ?_) (fun h => ?_)
  · refine r_iconst (pc := 18) (v := (-1)) C dX6_likes_18 (by decide) ?_
    exact r_iret (pc := 19) C rfl dX6_likes_19 h E
  · refine r_aload_n (pc := 9) (i := 0) C dX6_likes_9 rfl rfl ?_
    refine r_iload_n (pc := 10) (i := 1) C dX6_likes_10 rfl rfl ?_
    refine r_iload_n (pc := 11) (i := 2) C dX6_likes_11 rfl rfl ?_
    refine r_callVI (pc := 12) (As := [.int x1, .int x2]) (st := []) C cs_X6_312_X6_likesBy h (fun _ _ e => w_X6_likesBy (Nat.le_refl 3) e) (fun _ _ e => t_X6_likesBy e) (Nat.le_trans (Nat.le_of_ble_eq_true rfl) hd) (Nat.le_of_ble_eq_true rfl) dX6_likes_12 (fun v4 σ3 h => ?_)
    refine r_goto (pc := 15) (tgt := 19) C dX6_likes_15 (by decide) ?_
    exact r_iret (pc := 19) C rfl dX6_likes_19 h E
theorem t_X6_likes {F : Nat} {σ : MM} {a0 : Nat} {x1 : Int32} {x2 : Int32} {r : Int32 × MM} (h : g_X6_likes F σ a0 x1 x2 = some r) : mT σ a0 = (5, 62) := by
  unfold g_X6_likes at h
  exact (r_ck h).1
theorem fd_X6_355 : xFg RX6 355 5 62 42 := ⟨_, rfl, rfl, by decide, by decide, in_X6, Or.inl q1307⟩
theorem ft_X6_42 : xFt 5 42 .int false := ⟨_, rfl, by decide +kernel, rfl, rfl⟩
theorem fd_X6_358 : xFg RX6 358 5 62 43 := ⟨_, rfl, rfl, by decide, by decide, in_X6, Or.inl q1308⟩
theorem ft_X6_43 : xFt 5 43 .int false := ⟨_, rfl, by decide +kernel, rfl, rfl⟩
def g_X6_readsTimes (F : Nat) (σ : MM) (a0 : Nat) : Option (MM) := if mT σ a0 = (5, 62) then ((gI σ a0 5 62 8).bind fun v1 => (pI σ a0 5 62 42 v1).bind fun σ2 => (pI σ2 a0 5 62 43 1).bind fun σ3 => bq (g_X6_here F σ3 a0) fun v5 σ4 => bq (g_X6_in F σ4 v5 50 57) fun v7 σ6 => if v7 = 0 then (some σ6) else (bq (g_X6_here F σ6 a0) fun v9 σ8 => (pI σ8 a0 5 62 43 ((v9 - 48))).bind fun σ10 => (gI σ10 a0 5 62 8).bind fun v11 => (pI σ10 a0 5 62 8 ((v11 + 1))).bind fun σ12 => some σ12)) else none
theorem w_X6_readsTimes {B F : Nat} {d : Nat} {σ : MM} {a0 : Nat} {σf : MM} (hd : 1 ≤ d) (h : g_X6_readsTimes F σ a0 = some σf) : xMA B yX6_readsTimes cX6_readsTimes 1 none d 0 0 [rv B a0] σ none σf := by
  refine xMA.of (by decide +kernel) (Nat.le_of_ble_eq_true rfl) (cat_rv cat_nil) (fun G C E => ?_)
  unfold g_X6_readsTimes at h
  obtain ⟨-, h⟩ := r_ck h
  refine r_aload_n (pc := 0) (i := 0) C dX6_readsTimes_0 rfl rfl ?_
  refine r_aload_n (pc := 1) (i := 0) C dX6_readsTimes_1 rfl rfl ?_
  refine r_getI (pc := 2) C fd_X6_166 rfl dX6_readsTimes_2 h (fun v1 h => ?_)
  refine r_putI (pc := 5) C fd_X6_355 ft_X6_42 dX6_readsTimes_5 h (fun σ2 h => ?_)
  refine r_aload_n (pc := 8) (i := 0) C dX6_readsTimes_8 rfl rfl ?_
  refine r_iconst (pc := 9) (v := 1) C dX6_readsTimes_9 (by decide) ?_
  refine r_putI (pc := 10) C fd_X6_358 ft_X6_43 dX6_readsTimes_10 h (fun σ3 h => ?_)
  refine r_aload_n (pc := 13) (i := 0) C dX6_readsTimes_13 rfl rfl ?_
  refine r_callVI (pc := 14) (As := []) (st := []) C cs_X6_172_X6_here h (fun _ _ e => w_X6_here (Nat.le_refl 0) e) (fun _ _ e => t_X6_here e) (Nat.le_trans (Nat.le_of_ble_eq_true rfl) hd) (Nat.le_of_ble_eq_true rfl) dX6_readsTimes_14 (fun v5 σ4 h => ?_)
  refine r_bipush (pc := 17) (v := 50) C dX6_readsTimes_17 (by decide) ?_
  refine r_bipush (pc := 19) (v := 57) C dX6_readsTimes_19 (by decide) ?_
  refine r_callSI (pc := 21) (As := [.int v5, .int 50, .int 57]) (st := []) C cs_X6_123_X6_in h (fun _ _ e => w_X6_in (Nat.le_refl 0) e) (Nat.le_trans (Nat.le_of_ble_eq_true rfl) hd) (Nat.le_of_ble_eq_true rfl) dX6_readsTimes_21 (fun v7 σ6 h => ?_)
  refine r_ifne (pc := 24) (tgt := 28) C dX6_readsTimes_24 (by decide) h (fun h => ?_) (fun h => ?_)
  · refine r_aload_n (pc := 28) (i := 0) C dX6_readsTimes_28 rfl rfl ?_
    refine r_aload_n (pc := 29) (i := 0) C dX6_readsTimes_29 rfl rfl ?_
    refine r_callVI (pc := 30) (As := []) (st := [rv B a0]) C cs_X6_172_X6_here h (fun _ _ e => w_X6_here (Nat.le_refl 0) e) (fun _ _ e => t_X6_here e) (Nat.le_trans (Nat.le_of_ble_eq_true rfl) hd) (Nat.le_of_ble_eq_true rfl) dX6_readsTimes_30 (fun v9 σ8 h => ?_)
    refine r_bipush (pc := 33) (v := 48) C dX6_readsTimes_33 (by decide) ?_
    refine r_isub (pc := 35) C dX6_readsTimes_35 ?_
    refine r_putI (pc := 36) C fd_X6_358 ft_X6_43 dX6_readsTimes_36 h (fun σ10 h => ?_)
    refine r_aload_n (pc := 39) (i := 0) C dX6_readsTimes_39 rfl rfl ?_
    refine r_aload_n (pc := 40) (i := 0) C dX6_readsTimes_40 rfl rfl ?_
    refine r_getI (pc := 41) C fd_X6_166 rfl dX6_readsTimes_41 h (fun v11 h => ?_)
    refine r_iconst (pc := 44) (v := 1) C dX6_readsTimes_44 (by decide) ?_
    refine r_iadd (pc := 45) C dX6_readsTimes_45 ?_
    refine r_putI (pc := 46) C fd_X6_166 ft_X6_8 dX6_readsTimes_46 h (fun σ12 h => ?_)
    exact r_vret (pc := 49) C rfl dX6_readsTimes_49 h E
  · exact r_vret (pc := 27) C rfl dX6_readsTimes_27 h E
theorem t_X6_readsTimes {F : Nat} {σ : MM} {a0 : Nat} {r : MM} (h : g_X6_readsTimes F σ a0 = some r) : mT σ a0 = (5, 62) := by
  unfold g_X6_readsTimes at h
  exact (r_ck h).1
theorem fd_X6_352 : xFg RX6 352 5 62 40 := ⟨_, rfl, rfl, by decide, by decide, in_X6, Or.inl q1305⟩
theorem ft_X6_40 : xFt 5 40 .int false := ⟨_, rfl, by decide +kernel, rfl, rfl⟩
theorem fd_X6_71 : xFg RX6 71 5 62 36 := ⟨_, rfl, rfl, by decide, by decide, in_X6, Or.inl q1301⟩
theorem ft_X6_36 : xFt 5 36 (.array .int) true := ⟨_, rfl, by decide +kernel, rfl, rfl⟩
def l_X6_repeats_31 (K : MM → Option (Int32 × MM)) (F : Nat) (a0 : Nat) (x1 : Int32) (x2 : Int32) (x4 : Int32) : Nat → Int32 → MM → Option (Int32 × MM)
  | 0, _, _ => none
  | f + 1, z5, σ => if z5 < (x4 * x2) then ((gP σ a0 5 62 36).bind fun p2 => (gP σ a0 5 62 36).bind fun p3 => (aI σ p3 20 (((x1 + z5) - x4))).bind fun v4 => (sI σ p2 ((x1 + z5)) v4).bind fun σ5 => l_X6_repeats_31 K F a0 x1 x2 x4 f ((z5 + 1)) σ5) else (K σ)
def g_X6_repeats (F : Nat) (σ : MM) (a0 : Nat) (x1 : Int32) (x2 : Int32) (x3 : Int32) : Option (Int32 × MM) := if mT σ a0 = (5, 62) then ((gI σ a0 5 62 40).bind fun v1 => if 60 < (x1 + ((v1 - x1) * x2)) then (bq (g_X6_wrongAt F σ a0 6 x3) fun v9 σ8 => (rz v9).bind fun u => some (u, σ8)) else (l_X6_repeats_31 (fun (σ6 : MM) => (pI σ6 a0 5 62 40 ((x1 + ((v1 - x1) * x2)))).bind fun σ7 => some (1, σ7)) F a0 x1 x2 ((v1 - x1)) F ((v1 - x1)) σ)) else none
theorem wl_X6_repeats_31 {B : Nat} {G : XG} {d : Nat} {rf : Int32} {σf : MM} (hd : 1 ≤ d) (C : xC B G yX6_repeats cX6_repeats 6 (some .boolean) d 0 0) (E : xEnd B G (some (.int rf)) σf 0 0) {K : MM → Option (Int32 × MM)} {F : Nat} {a0 : Nat} {x1 : Int32} {x2 : Int32} {x4 : Int32} (hK : ∀ (σ : MM), K σ = some (rf, σf) → xV B G 0 0 σ 67 [(0, rv B a0), (1, .int x1), (2, .int x2), (4, .int x4)] []) : ∀ (f : Nat) (z5 : Int32) (σ : MM), l_X6_repeats_31 K F a0 x1 x2 x4 f z5 σ = some (rf, σf) → xV B G 0 0 σ 31 [(0, rv B a0), (1, .int x1), (2, .int x2), (4, .int x4), (5, .int z5)] [] := by
  intro f
  induction f with
  | zero =>
    intro z5 σ h
    have h : none = some (rf, σf) := h
    cases h
  | succ f ih =>
    intro z5 σ h
    rw [l_X6_repeats_31.eq_2] at h
    refine r_iload (pc := 31) (i := 5) C dX6_repeats_31 rfl ?_
    refine r_iload (pc := 33) (i := 4) C dX6_repeats_33 rfl ?_
    refine r_iload_n (pc := 35) (i := 2) C dX6_repeats_35 rfl rfl ?_
    refine r_imul (pc := 36) C dX6_repeats_36 ?_
    refine r_icmpge (pc := 37) (tgt := 67) C dX6_repeats_37 (by decide) h (fun h => ?_) (fun h => ?_)
    · refine r_pick (lv' := [(0, rv B a0), (1, .int x1), (2, .int x2), (4, .int x4)]) [0, 1, 2, 4] rfl ?_
      exact hK _ h
    · refine r_aload_n (pc := 40) (i := 0) C dX6_repeats_40 rfl rfl ?_
      refine r_getP (pc := 41) C fd_X6_71 rfl dX6_repeats_41 h (fun p2 h => ?_)
      refine r_iload_n (pc := 44) (i := 1) C dX6_repeats_44 rfl rfl ?_
      refine r_iload (pc := 45) (i := 5) C dX6_repeats_45 rfl ?_
      refine r_iadd (pc := 47) C dX6_repeats_47 ?_
      refine r_aload_n (pc := 48) (i := 0) C dX6_repeats_48 rfl rfl ?_
      refine r_getP (pc := 49) C fd_X6_71 rfl dX6_repeats_49 h (fun p3 h => ?_)
      refine r_iload_n (pc := 52) (i := 1) C dX6_repeats_52 rfl rfl ?_
      refine r_iload (pc := 53) (i := 5) C dX6_repeats_53 rfl ?_
      refine r_iadd (pc := 55) C dX6_repeats_55 ?_
      refine r_iload (pc := 56) (i := 4) C dX6_repeats_56 rfl ?_
      refine r_isub (pc := 58) C dX6_repeats_58 ?_
      refine r_iald (pc := 59) C dX6_repeats_59 h (fun v4 h => ?_)
      refine r_iast (pc := 60) C dX6_repeats_60 h (fun σ5 h => ?_)
      refine r_iinc (pc := 61) (i := 5) (v := (z5 + 1)) C dX6_repeats_61 rfl rfl (by decide) ?_
      refine r_goto (pc := 64) (tgt := 31) C dX6_repeats_64 (by decide) ?_
      refine r_pick (lv' := [(0, rv B a0), (1, .int x1), (2, .int x2), (4, .int x4), (5, .int (z5 + 1))]) [0, 1, 2, 4, 5] rfl ?_
      exact ih _ _ h
theorem w_X6_repeats {B F : Nat} {d : Nat} {σ : MM} {a0 : Nat} {x1 : Int32} {x2 : Int32} {x3 : Int32} {rf : Int32} {σf : MM} (hd : 1 ≤ d) (h : g_X6_repeats F σ a0 x1 x2 x3 = some (rf, σf)) : xMA B yX6_repeats cX6_repeats 6 (some .boolean) d 0 0 [rv B a0, .int x1, .int x2, .int x3] σ (some (.int rf)) σf := by
  refine xMA.of (by decide +kernel) (Nat.le_of_ble_eq_true rfl) (cat_rv (cat_int (cat_int (cat_int cat_nil)))) (fun G C E => ?_)
  unfold g_X6_repeats at h
  obtain ⟨-, h⟩ := r_ck h
  refine r_aload_n (pc := 0) (i := 0) C dX6_repeats_0 rfl rfl ?_
  refine r_getI (pc := 1) C fd_X6_352 rfl dX6_repeats_1 h (fun v1 h => ?_)
  refine r_iload_n (pc := 4) (i := 1) C dX6_repeats_4 rfl rfl ?_
  refine r_isub (pc := 5) C dX6_repeats_5 ?_
  refine r_istore (pc := 6) (i := 4) C dX6_repeats_6 (by decide) ?_
  refine r_iload_n (pc := 8) (i := 1) C dX6_repeats_8 rfl rfl ?_
  refine r_iload (pc := 9) (i := 4) C dX6_repeats_9 rfl ?_
  refine r_iload_n (pc := 11) (i := 2) C dX6_repeats_11 rfl rfl ?_
  refine r_imul (pc := 12) C dX6_repeats_12 ?_
  refine r_iadd (pc := 13) C dX6_repeats_13 ?_
  refine r_bipush (pc := 14) (v := 60) C dX6_repeats_14 (by decide) ?_
  refine r_icmple (pc := 16) (tgt := 27) C dX6_repeats_16 (by decide) h (fun h => ?_) (fun h => ?_)
  · refine r_iload (pc := 27) (i := 4) C dX6_repeats_27 rfl ?_
    refine r_istore (pc := 29) (i := 5) C dX6_repeats_29 (by decide) ?_
    refine r_pick (lv' := [(0, rv B a0), (1, .int x1), (2, .int x2), (4, .int (v1 - x1)), (5, .int (v1 - x1))]) [0, 1, 2, 4, 5] rfl ?_
    refine wl_X6_repeats_31 hd C E (fun  σ6 h => ?_) _ _ _ h
    refine r_aload_n (pc := 67) (i := 0) C dX6_repeats_67 rfl rfl ?_
    refine r_iload_n (pc := 68) (i := 1) C dX6_repeats_68 rfl rfl ?_
    refine r_iload (pc := 69) (i := 4) C dX6_repeats_69 rfl ?_
    refine r_iload_n (pc := 71) (i := 2) C dX6_repeats_71 rfl rfl ?_
    refine r_imul (pc := 72) C dX6_repeats_72 ?_
    refine r_iadd (pc := 73) C dX6_repeats_73 ?_
    refine r_putI (pc := 74) C fd_X6_352 ft_X6_40 dX6_repeats_74 h (fun σ7 h => ?_)
    refine r_iconst (pc := 77) (v := 1) C dX6_repeats_77 (by decide) ?_
    exact r_zretL (pc := 78) C rfl dX6_repeats_78 (Or.inr rfl) h E
  · refine r_aload_n (pc := 19) (i := 0) C dX6_repeats_19 rfl rfl ?_
    refine r_bipush (pc := 20) (v := 6) C dX6_repeats_20 (by decide) ?_
    refine r_iload_n (pc := 22) (i := 3) C dX6_repeats_22 rfl rfl ?_
    refine r_callVI (pc := 23) (As := [.int 6, .int x3]) (st := []) C cs_X6_179_X6_wrongAt h (fun _ _ e => w_X6_wrongAt (Nat.le_refl 0) e) (fun _ _ e => t_X6_wrongAt e) (Nat.le_trans (Nat.le_of_ble_eq_true rfl) hd) (Nat.le_of_ble_eq_true rfl) dX6_repeats_23 (fun v9 σ8 h => ?_)
    exact r_zret (pc := 26) C rfl dX6_repeats_26 h E
theorem t_X6_repeats {F : Nat} {σ : MM} {a0 : Nat} {x1 : Int32} {x2 : Int32} {x3 : Int32} {r : Int32 × MM} (h : g_X6_repeats F σ a0 x1 x2 x3 = some r) : mT σ a0 = (5, 62) := by
  unfold g_X6_repeats at h
  exact (r_ck h).1
theorem yd_X6_readsTimes : xYd yX6_readsTimes 0 := ⟨by decide +kernel, by decide +kernel, by decide +kernel⟩
theorem cs_X6_361_X6_readsTimes : xCV RX6 361 yX6_readsTimes cX6_readsTimes 1 none 5 62 0 := ⟨by decide, by decide, _, rfl, yd_X6_readsTimes, Or.inl ⟨rfl, lw_V q1721 q1723 qs93 q122 q1724⟩⟩
theorem fd_X6_364 : xFg RX6 364 5 62 41 := ⟨_, rfl, rfl, by decide, by decide, in_X6, Or.inl q1306⟩
theorem ft_X6_41 : xFt 5 41 .int false := ⟨_, rfl, by decide +kernel, rfl, rfl⟩
theorem fd_X6_74 : xFg RX6 74 5 62 37 := ⟨_, rfl, rfl, by decide, by decide, in_X6, Or.inl q1302⟩
theorem ft_X6_37 : xFt 5 37 (.array .int) true := ⟨_, rfl, by decide +kernel, rfl, rfl⟩
theorem fd_X6_77 : xFg RX6 77 5 62 38 := ⟨_, rfl, rfl, by decide, by decide, in_X6, Or.inl q1303⟩
theorem ft_X6_38 : xFt 5 38 (.array .int) true := ⟨_, rfl, by decide +kernel, rfl, rfl⟩
theorem fd_X6_80 : xFg RX6 80 5 62 39 := ⟨_, rfl, rfl, by decide, by decide, in_X6, Or.inl q1304⟩
theorem ft_X6_39 : xFt 5 39 (.array .int) true := ⟨_, rfl, by decide +kernel, rfl, rfl⟩
theorem yd_X6_repeats : xYd yX6_repeats 3 := ⟨by decide +kernel, by decide +kernel, by decide +kernel⟩
theorem cs_X6_367_X6_repeats : xCV RX6 367 yX6_repeats cX6_repeats 6 (some .boolean) 5 62 3 := ⟨by decide, by decide, _, rfl, yd_X6_repeats, Or.inl ⟨rfl, lw_V q1725 q1727 qs94 q122 q1728⟩⟩
def l_X6_readsItem_4 (K : MM → Option (Int32 × MM)) (F : Nat) (a0 : Nat) : Nat → MM → Option (Int32 × MM)
  | 0, _ => none
  | f + 1, σ => bq (g_X6_here F σ a0) fun v3 σ2 => if v3 = 40 then ((gI σ2 a0 5 62 41).bind fun v4 => if v4 = 2 then ((gI σ2 a0 5 62 8).bind fun v22 => bq (g_X6_wrongAt F σ2 a0 5 v22) fun v24 σ23 => (rz v24).bind fun u => some (u, σ23)) else ((gP σ2 a0 5 62 37).bind fun p5 => (gI σ2 a0 5 62 41).bind fun v6 => (gI σ2 a0 5 62 42).bind fun v7 => (sI σ2 p5 v6 v7).bind fun σ8 => (gP σ8 a0 5 62 38).bind fun p9 => (gI σ8 a0 5 62 41).bind fun v10 => (gI σ8 a0 5 62 40).bind fun v11 => (sI σ8 p9 v10 v11).bind fun σ12 => (gP σ12 a0 5 62 39).bind fun p13 => (gI σ12 a0 5 62 41).bind fun v14 => (gI σ12 a0 5 62 43).bind fun v15 => (sI σ12 p13 v14 v15).bind fun σ16 => (gI σ16 a0 5 62 41).bind fun v17 => (pI σ16 a0 5 62 41 ((v17 + 1))).bind fun σ18 => (gI σ18 a0 5 62 8).bind fun v19 => (pI σ18 a0 5 62 8 ((v19 + 1))).bind fun σ20 => (g_X6_readsTimes F σ20 a0).bind fun σ21 => l_X6_readsItem_4 K F a0 f σ21)) else (K σ2)
def l_X6_readsItem_203 (K : MM → Option (Int32 × MM)) (F : Nat) (a0 : Nat) : Nat → MM → Option (Int32 × MM)
  | 0, _ => none
  | f + 1, σ => bq (g_X6_here F σ a0) fun v46 σ45 => if v46 = 41 then ((gI σ45 a0 5 62 41).bind fun v47 => if 0 < v47 then ((gI σ45 a0 5 62 8).bind fun v48 => (pI σ45 a0 5 62 8 ((v48 + 1))).bind fun σ49 => (gI σ49 a0 5 62 41).bind fun v50 => (pI σ49 a0 5 62 41 ((v50 - 1))).bind fun σ51 => (gP σ51 a0 5 62 38).bind fun p52 => (gI σ51 a0 5 62 41).bind fun v53 => (aI σ51 p52 20 v53).bind fun v54 => (gP σ51 a0 5 62 39).bind fun p55 => (gI σ51 a0 5 62 41).bind fun v56 => (aI σ51 p55 20 v56).bind fun v57 => (gP σ51 a0 5 62 37).bind fun p58 => (gI σ51 a0 5 62 41).bind fun v59 => (aI σ51 p58 20 v59).bind fun v60 => bq (g_X6_repeats F σ51 a0 v54 v57 v60) fun v62 σ61 => if v62 = 0 then (K σ61) else (l_X6_readsItem_203 K F a0 f σ61)) else (some (1, σ45))) else (some (1, σ45))
def g_X6_readsItem (F : Nat) (σ : MM) (a0 : Nat) : Option (Int32 × MM) := if mT σ a0 = (5, 62) then ((g_X6_readsTimes F σ a0).bind fun σ1 => l_X6_readsItem_4 (fun (σ25 : MM) => (gI σ25 a0 5 62 42).bind fun v26 => (gI σ25 a0 5 62 43).bind fun v27 => bq (g_X6_here F σ25 a0) fun v29 σ28 => bq (g_X6_in F σ28 v29 97 106) fun v31 σ30 => if v31 = 0 then ((gI σ30 a0 5 62 8).bind fun v66 => bq (g_X6_wrongAt F σ30 a0 1 v66) fun v68 σ67 => (rz v68).bind fun u => some (u, σ67)) else ((gI σ30 a0 5 62 40).bind fun v32 => if 60 < (v32 + v27) then (bq (g_X6_wrongAt F σ30 a0 6 v26) fun v65 σ64 => (rz v65).bind fun u => some (u, σ64)) else ((gP σ30 a0 5 62 36).bind fun p33 => (gI σ30 a0 5 62 40).bind fun v34 => bq (g_X6_here F σ30 a0) fun v36 σ35 => (sI σ35 p33 v34 ((v36 - 97))).bind fun σ37 => (gI σ37 a0 5 62 40).bind fun v38 => (pI σ37 a0 5 62 40 ((v38 + 1))).bind fun σ39 => (gI σ39 a0 5 62 8).bind fun v40 => (pI σ39 a0 5 62 8 ((v40 + 1))).bind fun σ41 => (gI σ41 a0 5 62 40).bind fun v42 => bq (g_X6_repeats F σ41 a0 ((v42 - 1)) v27 v26) fun v44 σ43 => if v44 = 0 then (some (0, σ43)) else (l_X6_readsItem_203 (fun (σ63 : MM) => some (0, σ63)) F a0 F σ43)))) F a0 F σ1) else none
theorem wl_X6_readsItem_4 {B : Nat} {G : XG} {d : Nat} {rf : Int32} {σf : MM} (hd : 2 ≤ d) (C : xC B G yX6_readsItem cX6_readsItem 3 (some .boolean) d 0 0) (E : xEnd B G (some (.int rf)) σf 0 0) {K : MM → Option (Int32 × MM)} {F : Nat} {a0 : Nat} (hK : ∀ (σ : MM), K σ = some (rf, σf) → xV B G 0 0 σ 97 [(0, rv B a0)] []) : ∀ (f : Nat) (σ : MM), l_X6_readsItem_4 K F a0 f σ = some (rf, σf) → xV B G 0 0 σ 4 [(0, rv B a0)] [] := by
  intro f
  induction f with
  | zero =>
    intro σ h
    have h : none = some (rf, σf) := h
    cases h
  | succ f ih =>
    intro σ h
    rw [l_X6_readsItem_4.eq_2] at h
    refine r_aload_n (pc := 4) (i := 0) C dX6_readsItem_4 rfl rfl ?_
    refine r_callVI (pc := 5) (As := []) (st := []) C cs_X6_172_X6_here h (fun _ _ e => w_X6_here (Nat.le_refl 0) e) (fun _ _ e => t_X6_here e) (Nat.le_trans (Nat.le_of_ble_eq_true rfl) hd) (Nat.le_of_ble_eq_true rfl) dX6_readsItem_5 (fun v3 σ2 h => ?_)
    refine r_bipush (pc := 8) (v := 40) C dX6_readsItem_8 (by decide) ?_
    refine r_icmpne (pc := 10) (tgt := 97) C dX6_readsItem_10 (by decide) h (fun h => ?_) (fun h => ?_)
    · refine r_pick (lv' := [(0, rv B a0)]) [0] rfl ?_
      exact hK _ h
    · refine r_aload_n (pc := 13) (i := 0) C dX6_readsItem_13 rfl rfl ?_
      refine r_getI (pc := 14) C fd_X6_364 rfl dX6_readsItem_14 h (fun v4 h => ?_)
      refine r_iconst (pc := 17) (v := 2) C dX6_readsItem_17 (by decide) ?_
      refine r_icmpne (pc := 18) (tgt := 31) C dX6_readsItem_18 (by decide) h (fun h => ?_) (fun h => ?_)
      · refine r_aload_n (pc := 31) (i := 0) C dX6_readsItem_31 rfl rfl ?_
        refine r_getP (pc := 32) C fd_X6_74 rfl dX6_readsItem_32 h (fun p5 h => ?_)
        refine r_aload_n (pc := 35) (i := 0) C dX6_readsItem_35 rfl rfl ?_
        refine r_getI (pc := 36) C fd_X6_364 rfl dX6_readsItem_36 h (fun v6 h => ?_)
        refine r_aload_n (pc := 39) (i := 0) C dX6_readsItem_39 rfl rfl ?_
        refine r_getI (pc := 40) C fd_X6_355 rfl dX6_readsItem_40 h (fun v7 h => ?_)
        refine r_iast (pc := 43) C dX6_readsItem_43 h (fun σ8 h => ?_)
        refine r_aload_n (pc := 44) (i := 0) C dX6_readsItem_44 rfl rfl ?_
        refine r_getP (pc := 45) C fd_X6_77 rfl dX6_readsItem_45 h (fun p9 h => ?_)
        refine r_aload_n (pc := 48) (i := 0) C dX6_readsItem_48 rfl rfl ?_
        refine r_getI (pc := 49) C fd_X6_364 rfl dX6_readsItem_49 h (fun v10 h => ?_)
        refine r_aload_n (pc := 52) (i := 0) C dX6_readsItem_52 rfl rfl ?_
        refine r_getI (pc := 53) C fd_X6_352 rfl dX6_readsItem_53 h (fun v11 h => ?_)
        refine r_iast (pc := 56) C dX6_readsItem_56 h (fun σ12 h => ?_)
        refine r_aload_n (pc := 57) (i := 0) C dX6_readsItem_57 rfl rfl ?_
        refine r_getP (pc := 58) C fd_X6_80 rfl dX6_readsItem_58 h (fun p13 h => ?_)
        refine r_aload_n (pc := 61) (i := 0) C dX6_readsItem_61 rfl rfl ?_
        refine r_getI (pc := 62) C fd_X6_364 rfl dX6_readsItem_62 h (fun v14 h => ?_)
        refine r_aload_n (pc := 65) (i := 0) C dX6_readsItem_65 rfl rfl ?_
        refine r_getI (pc := 66) C fd_X6_358 rfl dX6_readsItem_66 h (fun v15 h => ?_)
        refine r_iast (pc := 69) C dX6_readsItem_69 h (fun σ16 h => ?_)
        refine r_aload_n (pc := 70) (i := 0) C dX6_readsItem_70 rfl rfl ?_
        refine r_aload_n (pc := 71) (i := 0) C dX6_readsItem_71 rfl rfl ?_
        refine r_getI (pc := 72) C fd_X6_364 rfl dX6_readsItem_72 h (fun v17 h => ?_)
        refine r_iconst (pc := 75) (v := 1) C dX6_readsItem_75 (by decide) ?_
        refine r_iadd (pc := 76) C dX6_readsItem_76 ?_
        refine r_putI (pc := 77) C fd_X6_364 ft_X6_41 dX6_readsItem_77 h (fun σ18 h => ?_)
        refine r_aload_n (pc := 80) (i := 0) C dX6_readsItem_80 rfl rfl ?_
        refine r_aload_n (pc := 81) (i := 0) C dX6_readsItem_81 rfl rfl ?_
        refine r_getI (pc := 82) C fd_X6_166 rfl dX6_readsItem_82 h (fun v19 h => ?_)
        refine r_iconst (pc := 85) (v := 1) C dX6_readsItem_85 (by decide) ?_
        refine r_iadd (pc := 86) C dX6_readsItem_86 ?_
        refine r_putI (pc := 87) C fd_X6_166 ft_X6_8 dX6_readsItem_87 h (fun σ20 h => ?_)
        refine r_aload_n (pc := 90) (i := 0) C dX6_readsItem_90 rfl rfl ?_
        refine r_callVV (pc := 91) (As := []) (st := []) C cs_X6_361_X6_readsTimes h (fun _ e => w_X6_readsTimes (Nat.le_refl 1) e) (fun _ e => t_X6_readsTimes e) (Nat.le_trans (Nat.le_of_ble_eq_true rfl) hd) (Nat.le_of_ble_eq_true rfl) dX6_readsItem_91 (fun σ21 h => ?_)
        refine r_goto (pc := 94) (tgt := 4) C dX6_readsItem_94 (by decide) ?_
        refine r_pick (lv' := [(0, rv B a0)]) [0] rfl ?_
        exact ih _ h
      · refine r_aload_n (pc := 21) (i := 0) C dX6_readsItem_21 rfl rfl ?_
        refine r_iconst (pc := 22) (v := 5) C dX6_readsItem_22 (by decide) ?_
        refine r_aload_n (pc := 23) (i := 0) C dX6_readsItem_23 rfl rfl ?_
        refine r_getI (pc := 24) C fd_X6_166 rfl dX6_readsItem_24 h (fun v22 h => ?_)
        refine r_callVI (pc := 27) (As := [.int 5, .int v22]) (st := []) C cs_X6_179_X6_wrongAt h (fun _ _ e => w_X6_wrongAt (Nat.le_refl 0) e) (fun _ _ e => t_X6_wrongAt e) (Nat.le_trans (Nat.le_of_ble_eq_true rfl) hd) (Nat.le_of_ble_eq_true rfl) dX6_readsItem_27 (fun v24 σ23 h => ?_)
        exact r_zret (pc := 30) C rfl dX6_readsItem_30 h E
theorem wl_X6_readsItem_203 {B : Nat} {G : XG} {d : Nat} {rf : Int32} {σf : MM} (hd : 2 ≤ d) (C : xC B G yX6_readsItem cX6_readsItem 3 (some .boolean) d 0 0) (E : xEnd B G (some (.int rf)) σf 0 0) {K : MM → Option (Int32 × MM)} {F : Nat} {a0 : Nat} (hK : ∀ (σ : MM), K σ = some (rf, σf) → xV B G 0 0 σ 273 [] []) : ∀ (f : Nat) (σ : MM), l_X6_readsItem_203 K F a0 f σ = some (rf, σf) → xV B G 0 0 σ 203 [(0, rv B a0)] [] := by
  intro f
  induction f with
  | zero =>
    intro σ h
    have h : none = some (rf, σf) := h
    cases h
  | succ f ih =>
    intro σ h
    rw [l_X6_readsItem_203.eq_2] at h
    refine r_aload_n (pc := 203) (i := 0) C dX6_readsItem_203 rfl rfl ?_
    refine r_callVI (pc := 204) (As := []) (st := []) C cs_X6_172_X6_here h (fun _ _ e => w_X6_here (Nat.le_refl 0) e) (fun _ _ e => t_X6_here e) (Nat.le_trans (Nat.le_of_ble_eq_true rfl) hd) (Nat.le_of_ble_eq_true rfl) dX6_readsItem_204 (fun v46 σ45 h => ?_)
    refine r_bipush (pc := 207) (v := 41) C dX6_readsItem_207 (by decide) ?_
    refine r_icmpne (pc := 209) (tgt := 275) C dX6_readsItem_209 (by decide) h (fun h => ?_) (fun h => ?_)
    · refine r_iconst (pc := 275) (v := 1) C dX6_readsItem_275 (by decide) ?_
      exact r_zretL (pc := 276) C rfl dX6_readsItem_276 (Or.inr rfl) h E
    · refine r_aload_n (pc := 212) (i := 0) C dX6_readsItem_212 rfl rfl ?_
      refine r_getI (pc := 213) C fd_X6_364 rfl dX6_readsItem_213 h (fun v47 h => ?_)
      refine r_ifle (pc := 216) (tgt := 275) C dX6_readsItem_216 (by decide) h (fun h => ?_) (fun h => ?_)
      · refine r_iconst (pc := 275) (v := 1) C dX6_readsItem_275 (by decide) ?_
        exact r_zretL (pc := 276) C rfl dX6_readsItem_276 (Or.inr rfl) h E
      · refine r_aload_n (pc := 219) (i := 0) C dX6_readsItem_219 rfl rfl ?_
        refine r_aload_n (pc := 220) (i := 0) C dX6_readsItem_220 rfl rfl ?_
        refine r_getI (pc := 221) C fd_X6_166 rfl dX6_readsItem_221 h (fun v48 h => ?_)
        refine r_iconst (pc := 224) (v := 1) C dX6_readsItem_224 (by decide) ?_
        refine r_iadd (pc := 225) C dX6_readsItem_225 ?_
        refine r_putI (pc := 226) C fd_X6_166 ft_X6_8 dX6_readsItem_226 h (fun σ49 h => ?_)
        refine r_aload_n (pc := 229) (i := 0) C dX6_readsItem_229 rfl rfl ?_
        refine r_aload_n (pc := 230) (i := 0) C dX6_readsItem_230 rfl rfl ?_
        refine r_getI (pc := 231) C fd_X6_364 rfl dX6_readsItem_231 h (fun v50 h => ?_)
        refine r_iconst (pc := 234) (v := 1) C dX6_readsItem_234 (by decide) ?_
        refine r_isub (pc := 235) C dX6_readsItem_235 ?_
        refine r_putI (pc := 236) C fd_X6_364 ft_X6_41 dX6_readsItem_236 h (fun σ51 h => ?_)
        refine r_aload_n (pc := 239) (i := 0) C dX6_readsItem_239 rfl rfl ?_
        refine r_aload_n (pc := 240) (i := 0) C dX6_readsItem_240 rfl rfl ?_
        refine r_getP (pc := 241) C fd_X6_77 rfl dX6_readsItem_241 h (fun p52 h => ?_)
        refine r_aload_n (pc := 244) (i := 0) C dX6_readsItem_244 rfl rfl ?_
        refine r_getI (pc := 245) C fd_X6_364 rfl dX6_readsItem_245 h (fun v53 h => ?_)
        refine r_iald (pc := 248) C dX6_readsItem_248 h (fun v54 h => ?_)
        refine r_aload_n (pc := 249) (i := 0) C dX6_readsItem_249 rfl rfl ?_
        refine r_getP (pc := 250) C fd_X6_80 rfl dX6_readsItem_250 h (fun p55 h => ?_)
        refine r_aload_n (pc := 253) (i := 0) C dX6_readsItem_253 rfl rfl ?_
        refine r_getI (pc := 254) C fd_X6_364 rfl dX6_readsItem_254 h (fun v56 h => ?_)
        refine r_iald (pc := 257) C dX6_readsItem_257 h (fun v57 h => ?_)
        refine r_aload_n (pc := 258) (i := 0) C dX6_readsItem_258 rfl rfl ?_
        refine r_getP (pc := 259) C fd_X6_74 rfl dX6_readsItem_259 h (fun p58 h => ?_)
        refine r_aload_n (pc := 262) (i := 0) C dX6_readsItem_262 rfl rfl ?_
        refine r_getI (pc := 263) C fd_X6_364 rfl dX6_readsItem_263 h (fun v59 h => ?_)
        refine r_iald (pc := 266) C dX6_readsItem_266 h (fun v60 h => ?_)
        refine r_callVI (pc := 267) (As := [.int v54, .int v57, .int v60]) (st := []) C cs_X6_367_X6_repeats h (fun _ _ e => w_X6_repeats (Nat.le_refl 1) e) (fun _ _ e => t_X6_repeats e) (Nat.le_trans (Nat.le_of_ble_eq_true rfl) hd) (Nat.le_of_ble_eq_true rfl) dX6_readsItem_267 (fun v62 σ61 h => ?_)
        refine r_ifne (pc := 270) (tgt := 203) C dX6_readsItem_270 (by decide) h (fun h => ?_) (fun h => ?_)
        · refine r_pick (lv' := [(0, rv B a0)]) [0] rfl ?_
          exact ih _ h
        · refine r_pick (lv' := []) [] rfl ?_
          exact hK _ h
theorem w_X6_readsItem {B F : Nat} {d : Nat} {σ : MM} {a0 : Nat} {rf : Int32} {σf : MM} (hd : 2 ≤ d) (h : g_X6_readsItem F σ a0 = some (rf, σf)) : xMA B yX6_readsItem cX6_readsItem 3 (some .boolean) d 0 0 [rv B a0] σ (some (.int rf)) σf := by
  refine xMA.of (by decide +kernel) (Nat.le_of_ble_eq_true rfl) (cat_rv cat_nil) (fun G C E => ?_)
  unfold g_X6_readsItem at h
  obtain ⟨-, h⟩ := r_ck h
  refine r_aload_n (pc := 0) (i := 0) C dX6_readsItem_0 rfl rfl ?_
  refine r_callVV (pc := 1) (As := []) (st := []) C cs_X6_361_X6_readsTimes h (fun _ e => w_X6_readsTimes (Nat.le_refl 1) e) (fun _ e => t_X6_readsTimes e) (Nat.le_trans (Nat.le_of_ble_eq_true rfl) hd) (Nat.le_of_ble_eq_true rfl) dX6_readsItem_1 (fun σ1 h => ?_)
  refine r_pick (lv' := [(0, rv B a0)]) [0] rfl ?_
  refine wl_X6_readsItem_4 hd C E (fun  σ25 h => ?_) _ _ h
  refine r_aload_n (pc := 97) (i := 0) C dX6_readsItem_97 rfl rfl ?_
  refine r_getI (pc := 98) C fd_X6_355 rfl dX6_readsItem_98 h (fun v26 h => ?_)
  refine r_istore_n (pc := 101) (i := 1) C dX6_readsItem_101 rfl (by decide) ?_
  refine r_aload_n (pc := 102) (i := 0) C dX6_readsItem_102 rfl rfl ?_
  refine r_getI (pc := 103) C fd_X6_358 rfl dX6_readsItem_103 h (fun v27 h => ?_)
  refine r_istore_n (pc := 106) (i := 2) C dX6_readsItem_106 rfl (by decide) ?_
  refine r_aload_n (pc := 107) (i := 0) C dX6_readsItem_107 rfl rfl ?_
  refine r_callVI (pc := 108) (As := []) (st := []) C cs_X6_172_X6_here h (fun _ _ e => w_X6_here (Nat.le_refl 0) e) (fun _ _ e => t_X6_here e) (Nat.le_trans (Nat.le_of_ble_eq_true rfl) hd) (Nat.le_of_ble_eq_true rfl) dX6_readsItem_108 (fun v29 σ28 h => ?_)
  refine r_bipush (pc := 111) (v := 97) C dX6_readsItem_111 (by decide) ?_
  refine r_bipush (pc := 113) (v := 106) C dX6_readsItem_113 (by decide) ?_
  refine r_callSI (pc := 115) (As := [.int v29, .int 97, .int 106]) (st := []) C cs_X6_123_X6_in h (fun _ _ e => w_X6_in (Nat.le_refl 0) e) (Nat.le_trans (Nat.le_of_ble_eq_true rfl) hd) (Nat.le_of_ble_eq_true rfl) dX6_readsItem_115 (fun v31 σ30 h => ?_)
  refine r_ifne (pc := 118) (tgt := 131) C dX6_readsItem_118 (by decide) h (fun h => ?_) (fun h => ?_)
  · refine r_aload_n (pc := 131) (i := 0) C dX6_readsItem_131 rfl rfl ?_
    refine r_getI (pc := 132) C fd_X6_352 rfl dX6_readsItem_132 h (fun v32 h => ?_)
    refine r_iload_n (pc := 135) (i := 2) C dX6_readsItem_135 rfl rfl ?_
    refine r_iadd (pc := 136) C dX6_readsItem_136 ?_
    refine r_bipush (pc := 137) (v := 60) C dX6_readsItem_137 (by decide) ?_
    refine r_icmple (pc := 139) (tgt := 150) C dX6_readsItem_139 (by decide) h (fun h => ?_) (fun h => ?_)
    · refine r_aload_n (pc := 150) (i := 0) C dX6_readsItem_150 rfl rfl ?_
      refine r_getP (pc := 151) C fd_X6_71 rfl dX6_readsItem_151 h (fun p33 h => ?_)
      refine r_aload_n (pc := 154) (i := 0) C dX6_readsItem_154 rfl rfl ?_
      refine r_getI (pc := 155) C fd_X6_352 rfl dX6_readsItem_155 h (fun v34 h => ?_)
      refine r_aload_n (pc := 158) (i := 0) C dX6_readsItem_158 rfl rfl ?_
      refine r_callVI (pc := 159) (As := []) (st := [.int v34, rv B p33]) C cs_X6_172_X6_here h (fun _ _ e => w_X6_here (Nat.le_refl 0) e) (fun _ _ e => t_X6_here e) (Nat.le_trans (Nat.le_of_ble_eq_true rfl) hd) (Nat.le_of_ble_eq_true rfl) dX6_readsItem_159 (fun v36 σ35 h => ?_)
      refine r_bipush (pc := 162) (v := 97) C dX6_readsItem_162 (by decide) ?_
      refine r_isub (pc := 164) C dX6_readsItem_164 ?_
      refine r_iast (pc := 165) C dX6_readsItem_165 h (fun σ37 h => ?_)
      refine r_aload_n (pc := 166) (i := 0) C dX6_readsItem_166 rfl rfl ?_
      refine r_aload_n (pc := 167) (i := 0) C dX6_readsItem_167 rfl rfl ?_
      refine r_getI (pc := 168) C fd_X6_352 rfl dX6_readsItem_168 h (fun v38 h => ?_)
      refine r_iconst (pc := 171) (v := 1) C dX6_readsItem_171 (by decide) ?_
      refine r_iadd (pc := 172) C dX6_readsItem_172 ?_
      refine r_putI (pc := 173) C fd_X6_352 ft_X6_40 dX6_readsItem_173 h (fun σ39 h => ?_)
      refine r_aload_n (pc := 176) (i := 0) C dX6_readsItem_176 rfl rfl ?_
      refine r_aload_n (pc := 177) (i := 0) C dX6_readsItem_177 rfl rfl ?_
      refine r_getI (pc := 178) C fd_X6_166 rfl dX6_readsItem_178 h (fun v40 h => ?_)
      refine r_iconst (pc := 181) (v := 1) C dX6_readsItem_181 (by decide) ?_
      refine r_iadd (pc := 182) C dX6_readsItem_182 ?_
      refine r_putI (pc := 183) C fd_X6_166 ft_X6_8 dX6_readsItem_183 h (fun σ41 h => ?_)
      refine r_aload_n (pc := 186) (i := 0) C dX6_readsItem_186 rfl rfl ?_
      refine r_aload_n (pc := 187) (i := 0) C dX6_readsItem_187 rfl rfl ?_
      refine r_getI (pc := 188) C fd_X6_352 rfl dX6_readsItem_188 h (fun v42 h => ?_)
      refine r_iconst (pc := 191) (v := 1) C dX6_readsItem_191 (by decide) ?_
      refine r_isub (pc := 192) C dX6_readsItem_192 ?_
      refine r_iload_n (pc := 193) (i := 2) C dX6_readsItem_193 rfl rfl ?_
      refine r_iload_n (pc := 194) (i := 1) C dX6_readsItem_194 rfl rfl ?_
      refine r_callVI (pc := 195) (As := [.int (v42 - 1), .int v27, .int v26]) (st := []) C cs_X6_367_X6_repeats h (fun _ _ e => w_X6_repeats (Nat.le_refl 1) e) (fun _ _ e => t_X6_repeats e) (Nat.le_trans (Nat.le_of_ble_eq_true rfl) hd) (Nat.le_of_ble_eq_true rfl) dX6_readsItem_195 (fun v44 σ43 h => ?_)
      refine r_ifne (pc := 198) (tgt := 203) C dX6_readsItem_198 (by decide) h (fun h => ?_) (fun h => ?_)
      · refine r_pick (lv' := [(0, rv B a0)]) [0] rfl ?_
        refine wl_X6_readsItem_203 hd C E (fun  σ63 h => ?_) _ _ h
        refine r_iconst (pc := 273) (v := 0) C dX6_readsItem_273 (by decide) ?_
        exact r_zretL (pc := 274) C rfl dX6_readsItem_274 (Or.inl rfl) h E
      · refine r_iconst (pc := 201) (v := 0) C dX6_readsItem_201 (by decide) ?_
        exact r_zretL (pc := 202) C rfl dX6_readsItem_202 (Or.inl rfl) h E
    · refine r_aload_n (pc := 142) (i := 0) C dX6_readsItem_142 rfl rfl ?_
      refine r_bipush (pc := 143) (v := 6) C dX6_readsItem_143 (by decide) ?_
      refine r_iload_n (pc := 145) (i := 1) C dX6_readsItem_145 rfl rfl ?_
      refine r_callVI (pc := 146) (As := [.int 6, .int v26]) (st := []) C cs_X6_179_X6_wrongAt h (fun _ _ e => w_X6_wrongAt (Nat.le_refl 0) e) (fun _ _ e => t_X6_wrongAt e) (Nat.le_trans (Nat.le_of_ble_eq_true rfl) hd) (Nat.le_of_ble_eq_true rfl) dX6_readsItem_146 (fun v65 σ64 h => ?_)
      exact r_zret (pc := 149) C rfl dX6_readsItem_149 h E
  · refine r_aload_n (pc := 121) (i := 0) C dX6_readsItem_121 rfl rfl ?_
    refine r_iconst (pc := 122) (v := 1) C dX6_readsItem_122 (by decide) ?_
    refine r_aload_n (pc := 123) (i := 0) C dX6_readsItem_123 rfl rfl ?_
    refine r_getI (pc := 124) C fd_X6_166 rfl dX6_readsItem_124 h (fun v66 h => ?_)
    refine r_callVI (pc := 127) (As := [.int 1, .int v66]) (st := []) C cs_X6_179_X6_wrongAt h (fun _ _ e => w_X6_wrongAt (Nat.le_refl 0) e) (fun _ _ e => t_X6_wrongAt e) (Nat.le_trans (Nat.le_of_ble_eq_true rfl) hd) (Nat.le_of_ble_eq_true rfl) dX6_readsItem_127 (fun v68 σ67 h => ?_)
    exact r_zret (pc := 130) C rfl dX6_readsItem_130 h E
theorem t_X6_readsItem {F : Nat} {σ : MM} {a0 : Nat} {r : Int32 × MM} (h : g_X6_readsItem F σ a0 = some r) : mT σ a0 = (5, 62) := by
  unfold g_X6_readsItem at h
  exact (r_ck h).1
theorem yd_X6_readsItem : xYd yX6_readsItem 0 := ⟨by decide +kernel, by decide +kernel, by decide +kernel⟩
theorem cs_X6_370_X6_readsItem : xCV RX6 370 yX6_readsItem cX6_readsItem 3 (some .boolean) 5 62 0 := ⟨by decide, by decide, _, rfl, yd_X6_readsItem, Or.inl ⟨rfl, lw_V q1717 q1719 qs92 q122 q1720⟩⟩
def l_X6_readsRoute_25 (K : Int32 → MM → Option (Int32 × MM)) (F : Nat) (a0 : Nat) : Nat → Int32 → MM → Option (Int32 × MM)
  | 0, _, _ => none
  | f + 1, z2, σ => if z2 = 0 then (K z2 σ) else ((gI σ a0 5 62 8).bind fun v7 => (gI σ a0 5 62 9).bind fun v8 => jn (fun  (σ9 : MM) => bq (g_X6_readsItem F σ9 a0) fun v12 σ11 => l_X6_readsRoute_25 K F a0 f v12 σ11) (fun k10 => if v7 < v8 then (k10 σ) else ((gI σ a0 5 62 41).bind fun v13 => if 0 < v13 then (k10 σ) else (K z2 σ))))
def g_X6_readsRoute (F : Nat) (σ : MM) (a0 : Nat) (x1 : Int32) : Option (Int32 × MM) := if mT σ a0 = (5, 62) then ((pI σ a0 5 62 8 0).bind fun σ1 => (pI σ1 a0 5 62 9 x1).bind fun σ2 => (pI σ2 a0 5 62 40 0).bind fun σ3 => (pI σ3 a0 5 62 41 0).bind fun σ4 => bq (g_X6_readsItem F σ4 a0) fun v6 σ5 => l_X6_readsRoute_25 (fun (r2_15 : Int32) (σ14 : MM) => (pI σ14 a0 5 62 7 0).bind fun σ16 => if r2_15 = 0 then ((gI σ16 a0 5 62 10).bind fun v17 => some (v17, σ16)) else (some (0, σ16))) F a0 F v6 σ5) else none
theorem wl_X6_readsRoute_25 {B : Nat} {G : XG} {d : Nat} {rf : Int32} {σf : MM} (hd : 3 ≤ d) (C : xC B G yX6_readsRoute cX6_readsRoute 3 (some .int) d 0 0) (E : xEnd B G (some (.int rf)) σf 0 0) {K : Int32 → MM → Option (Int32 × MM)} {F : Nat} {a0 : Nat} (hK : ∀ (q2 : Int32) (σ : MM), K q2 σ = some (rf, σf) → xV B G 0 0 σ 55 [(0, rv B a0), (2, .int q2)] []) : ∀ (f : Nat) (z2 : Int32) (σ : MM), l_X6_readsRoute_25 K F a0 f z2 σ = some (rf, σf) → xV B G 0 0 σ 25 [(0, rv B a0), (2, .int z2)] [] := by
  intro f
  induction f with
  | zero =>
    intro z2 σ h
    have h : none = some (rf, σf) := h
    cases h
  | succ f ih =>
    intro z2 σ h
    rw [l_X6_readsRoute_25.eq_2] at h
    refine r_iload_n (pc := 25) (i := 2) C dX6_readsRoute_25 rfl rfl ?_
    refine r_ifeq (pc := 26) (tgt := 55) C dX6_readsRoute_26 (by decide) h (fun h => ?_) (fun h => ?_)
    · refine r_pick (lv' := [(0, rv B a0), (2, .int z2)]) [0, 2] rfl ?_
      exact hK _ _ h
    · refine r_aload_n (pc := 29) (i := 0) C dX6_readsRoute_29 rfl rfl ?_
      refine r_getI (pc := 30) C fd_X6_166 rfl dX6_readsRoute_30 h (fun v7 h => ?_)
      refine r_aload_n (pc := 33) (i := 0) C dX6_readsRoute_33 rfl rfl ?_
      refine r_getI (pc := 34) C fd_X6_169 rfl dX6_readsRoute_34 h (fun v8 h => ?_)
      refine r_jn (fun k9 => ∀  (σ9 : MM), k9 σ9 = some (rf, σf) → xV B G 0 0 σ9 47 [(0, rv B a0)] []) h (fun  σ9 h => ?_) (fun k10 hk10 h => ?_)
      · refine r_aload_n (pc := 47) (i := 0) C dX6_readsRoute_47 rfl rfl ?_
        refine r_callVI (pc := 48) (As := []) (st := []) C cs_X6_370_X6_readsItem h (fun _ _ e => w_X6_readsItem (Nat.le_refl 2) e) (fun _ _ e => t_X6_readsItem e) (Nat.le_trans (Nat.le_of_ble_eq_true rfl) hd) (Nat.le_of_ble_eq_true rfl) dX6_readsRoute_48 (fun v12 σ11 h => ?_)
        refine r_istore_n (pc := 51) (i := 2) C dX6_readsRoute_51 rfl (by decide) ?_
        refine r_goto (pc := 52) (tgt := 25) C dX6_readsRoute_52 (by decide) ?_
        refine r_pick (lv' := [(0, rv B a0), (2, .int v12)]) [0, 2] rfl ?_
        exact ih _ _ h
      · refine r_icmplt (pc := 37) (tgt := 47) C dX6_readsRoute_37 (by decide) h (fun h => ?_) (fun h => ?_)
        · refine r_pick (lv' := [(0, rv B a0)]) [0] rfl ?_
          exact hk10 _ h
        · refine r_aload_n (pc := 40) (i := 0) C dX6_readsRoute_40 rfl rfl ?_
          refine r_getI (pc := 41) C fd_X6_364 rfl dX6_readsRoute_41 h (fun v13 h => ?_)
          refine r_ifle (pc := 44) (tgt := 55) C dX6_readsRoute_44 (by decide) h (fun h => ?_) (fun h => ?_)
          · refine r_pick (lv' := [(0, rv B a0), (2, .int z2)]) [0, 2] rfl ?_
            exact hK _ _ h
          · refine r_pick (lv' := [(0, rv B a0)]) [0] rfl ?_
            exact hk10 _ h
theorem w_X6_readsRoute {B F : Nat} {d : Nat} {σ : MM} {a0 : Nat} {x1 : Int32} {rf : Int32} {σf : MM} (hd : 3 ≤ d) (h : g_X6_readsRoute F σ a0 x1 = some (rf, σf)) : xMA B yX6_readsRoute cX6_readsRoute 3 (some .int) d 0 0 [rv B a0, .int x1] σ (some (.int rf)) σf := by
  refine xMA.of (by decide +kernel) (Nat.le_of_ble_eq_true rfl) (cat_rv (cat_int cat_nil)) (fun G C E => ?_)
  unfold g_X6_readsRoute at h
  obtain ⟨-, h⟩ := r_ck h
  refine r_aload_n (pc := 0) (i := 0) C dX6_readsRoute_0 rfl rfl ?_
  refine r_iconst (pc := 1) (v := 0) C dX6_readsRoute_1 (by decide) ?_
  refine r_putI (pc := 2) C fd_X6_166 ft_X6_8 dX6_readsRoute_2 h (fun σ1 h => ?_)
  refine r_aload_n (pc := 5) (i := 0) C dX6_readsRoute_5 rfl rfl ?_
  refine r_iload_n (pc := 6) (i := 1) C dX6_readsRoute_6 rfl rfl ?_
  refine r_putI (pc := 7) C fd_X6_169 ft_X6_9 dX6_readsRoute_7 h (fun σ2 h => ?_)
  refine r_aload_n (pc := 10) (i := 0) C dX6_readsRoute_10 rfl rfl ?_
  refine r_iconst (pc := 11) (v := 0) C dX6_readsRoute_11 (by decide) ?_
  refine r_putI (pc := 12) C fd_X6_352 ft_X6_40 dX6_readsRoute_12 h (fun σ3 h => ?_)
  refine r_aload_n (pc := 15) (i := 0) C dX6_readsRoute_15 rfl rfl ?_
  refine r_iconst (pc := 16) (v := 0) C dX6_readsRoute_16 (by decide) ?_
  refine r_putI (pc := 17) C fd_X6_364 ft_X6_41 dX6_readsRoute_17 h (fun σ4 h => ?_)
  refine r_aload_n (pc := 20) (i := 0) C dX6_readsRoute_20 rfl rfl ?_
  refine r_callVI (pc := 21) (As := []) (st := []) C cs_X6_370_X6_readsItem h (fun _ _ e => w_X6_readsItem (Nat.le_refl 2) e) (fun _ _ e => t_X6_readsItem e) (Nat.le_trans (Nat.le_of_ble_eq_true rfl) hd) (Nat.le_of_ble_eq_true rfl) dX6_readsRoute_21 (fun v6 σ5 h => ?_)
  refine r_istore_n (pc := 24) (i := 2) C dX6_readsRoute_24 rfl (by decide) ?_
  refine r_pick (lv' := [(0, rv B a0), (2, .int v6)]) [0, 2] rfl ?_
  refine wl_X6_readsRoute_25 hd C E (fun r2_15 σ14 h => ?_) _ _ _ h
  refine r_aload_n (pc := 55) (i := 0) C dX6_readsRoute_55 rfl rfl ?_
  refine r_iconst (pc := 56) (v := 0) C dX6_readsRoute_56 (by decide) ?_
  refine r_putI (pc := 57) C fd_X6_160 ft_X6_7 dX6_readsRoute_57 h (fun σ16 h => ?_)
  refine r_iload_n (pc := 60) (i := 2) C dX6_readsRoute_60 rfl rfl ?_
  refine r_ifeq (pc := 61) (tgt := 68) C dX6_readsRoute_61 (by decide) h (fun h => ?_) (fun h => ?_)
  · refine r_aload_n (pc := 68) (i := 0) C dX6_readsRoute_68 rfl rfl ?_
    refine r_getI (pc := 69) C fd_X6_176 rfl dX6_readsRoute_69 h (fun v17 h => ?_)
    exact r_iret (pc := 72) C rfl dX6_readsRoute_72 h E
  · refine r_iconst (pc := 64) (v := 0) C dX6_readsRoute_64 (by decide) ?_
    refine r_goto (pc := 65) (tgt := 72) C dX6_readsRoute_65 (by decide) ?_
    exact r_iret (pc := 72) C rfl dX6_readsRoute_72 h E
theorem t_X6_readsRoute {F : Nat} {σ : MM} {a0 : Nat} {x1 : Int32} {r : Int32 × MM} (h : g_X6_readsRoute F σ a0 x1 = some r) : mT σ a0 = (5, 62) := by
  unfold g_X6_readsRoute at h
  exact (r_ck h).1
theorem fd_X6_373 : xFg RX6 373 5 62 44 := ⟨_, rfl, rfl, by decide, by decide, in_X6, Or.inl q1309⟩
theorem ft_X6_44 : xFt 5 44 .int false := ⟨_, rfl, by decide +kernel, rfl, rfl⟩
theorem fd_X6_376 : xFg RX6 376 5 62 45 := ⟨_, rfl, rfl, by decide, by decide, in_X6, Or.inl q1310⟩
theorem ft_X6_45 : xFt 5 45 .int false := ⟨_, rfl, by decide +kernel, rfl, rfl⟩
def l_X6_walksRoute_10 (K : MM → Option (MM)) (F : Nat) (a0 : Nat) : Nat → MM → Option (MM)
  | 0, _ => none
  | f + 1, σ => (gI σ a0 5 62 44).bind fun v3 => (gI σ a0 5 62 40).bind fun v4 => if v3 < v4 then ((gP σ a0 5 62 0).bind fun p5 => (aI σ p5 20 151).bind fun v6 => (gP σ a0 5 62 36).bind fun p7 => (gI σ a0 5 62 44).bind fun v8 => (aI σ p7 20 v8).bind fun v9 => bq (g_X6_debtOf F σ a0 v6 v9) fun v11 σ10 => if v11 = 0 then (some σ10) else ((gI σ10 a0 5 62 45).bind fun v12 => bq (g_X6_wayOf F σ10 a0 v6 v9) fun v14 σ13 => (pI σ13 a0 5 62 45 ((v12 + v14))).bind fun σ15 => (g_X6_pays F σ15 a0 v6 v9).bind fun σ16 => (gI σ16 a0 5 62 44).bind fun v17 => (pI σ16 a0 5 62 44 ((v17 + 1))).bind fun σ18 => l_X6_walksRoute_10 K F a0 f σ18)) else (K σ)
def g_X6_walksRoute (F : Nat) (σ : MM) (a0 : Nat) : Option (MM) := if mT σ a0 = (5, 62) then ((pI σ a0 5 62 44 0).bind fun σ1 => (pI σ1 a0 5 62 45 0).bind fun σ2 => l_X6_walksRoute_10 (fun (σ19 : MM) => some σ19) F a0 F σ2) else none
theorem wl_X6_walksRoute_10 {B : Nat} {G : XG} {d : Nat} {σf : MM} (hd : 2 ≤ d) (C : xC B G yX6_walksRoute cX6_walksRoute 3 none d 0 0) (E : xEnd B G none σf 0 0) {K : MM → Option (MM)} {F : Nat} {a0 : Nat} (hK : ∀ (σ : MM), K σ = some σf → xV B G 0 0 σ 84 [] []) : ∀ (f : Nat) (σ : MM), l_X6_walksRoute_10 K F a0 f σ = some σf → xV B G 0 0 σ 10 [(0, rv B a0)] [] := by
  intro f
  induction f with
  | zero =>
    intro σ h
    have h : none = some σf := h
    cases h
  | succ f ih =>
    intro σ h
    rw [l_X6_walksRoute_10.eq_2] at h
    refine r_aload_n (pc := 10) (i := 0) C dX6_walksRoute_10 rfl rfl ?_
    refine r_getI (pc := 11) C fd_X6_373 rfl dX6_walksRoute_11 h (fun v3 h => ?_)
    refine r_aload_n (pc := 14) (i := 0) C dX6_walksRoute_14 rfl rfl ?_
    refine r_getI (pc := 15) C fd_X6_352 rfl dX6_walksRoute_15 h (fun v4 h => ?_)
    refine r_icmpge (pc := 18) (tgt := 84) C dX6_walksRoute_18 (by decide) h (fun h => ?_) (fun h => ?_)
    · refine r_pick (lv' := []) [] rfl ?_
      exact hK _ h
    · refine r_aload_n (pc := 21) (i := 0) C dX6_walksRoute_21 rfl rfl ?_
      refine r_getP (pc := 22) C fd_X6_7 rfl dX6_walksRoute_22 h (fun p5 h => ?_)
      refine r_sipush (pc := 25) (v := 151) C dX6_walksRoute_25 (by decide) ?_
      refine r_iald (pc := 28) C dX6_walksRoute_28 h (fun v6 h => ?_)
      refine r_istore_n (pc := 29) (i := 1) C dX6_walksRoute_29 rfl (by decide) ?_
      refine r_aload_n (pc := 30) (i := 0) C dX6_walksRoute_30 rfl rfl ?_
      refine r_getP (pc := 31) C fd_X6_71 rfl dX6_walksRoute_31 h (fun p7 h => ?_)
      refine r_aload_n (pc := 34) (i := 0) C dX6_walksRoute_34 rfl rfl ?_
      refine r_getI (pc := 35) C fd_X6_373 rfl dX6_walksRoute_35 h (fun v8 h => ?_)
      refine r_iald (pc := 38) C dX6_walksRoute_38 h (fun v9 h => ?_)
      refine r_istore_n (pc := 39) (i := 2) C dX6_walksRoute_39 rfl (by decide) ?_
      refine r_aload_n (pc := 40) (i := 0) C dX6_walksRoute_40 rfl rfl ?_
      refine r_iload_n (pc := 41) (i := 1) C dX6_walksRoute_41 rfl rfl ?_
      refine r_iload_n (pc := 42) (i := 2) C dX6_walksRoute_42 rfl rfl ?_
      refine r_callVI (pc := 43) (As := [.int v6, .int v9]) (st := []) C cs_X6_147_X6_debtOf h (fun _ _ e => w_X6_debtOf (Nat.le_refl 0) e) (fun _ _ e => t_X6_debtOf e) (Nat.le_trans (Nat.le_of_ble_eq_true rfl) hd) (Nat.le_of_ble_eq_true rfl) dX6_walksRoute_43 (fun v11 σ10 h => ?_)
      refine r_ifne (pc := 46) (tgt := 50) C dX6_walksRoute_46 (by decide) h (fun h => ?_) (fun h => ?_)
      · refine r_aload_n (pc := 50) (i := 0) C dX6_walksRoute_50 rfl rfl ?_
        refine r_aload_n (pc := 51) (i := 0) C dX6_walksRoute_51 rfl rfl ?_
        refine r_getI (pc := 52) C fd_X6_376 rfl dX6_walksRoute_52 h (fun v12 h => ?_)
        refine r_aload_n (pc := 55) (i := 0) C dX6_walksRoute_55 rfl rfl ?_
        refine r_iload_n (pc := 56) (i := 1) C dX6_walksRoute_56 rfl rfl ?_
        refine r_iload_n (pc := 57) (i := 2) C dX6_walksRoute_57 rfl rfl ?_
        refine r_callVI (pc := 58) (As := [.int v6, .int v9]) (st := [.int v12, rv B a0]) C cs_X6_268_X6_wayOf h (fun _ _ e => w_X6_wayOf (Nat.le_refl 1) e) (fun _ _ e => t_X6_wayOf e) (Nat.le_trans (Nat.le_of_ble_eq_true rfl) hd) (Nat.le_of_ble_eq_true rfl) dX6_walksRoute_58 (fun v14 σ13 h => ?_)
        refine r_iadd (pc := 61) C dX6_walksRoute_61 ?_
        refine r_putI (pc := 62) C fd_X6_376 ft_X6_45 dX6_walksRoute_62 h (fun σ15 h => ?_)
        refine r_aload_n (pc := 65) (i := 0) C dX6_walksRoute_65 rfl rfl ?_
        refine r_iload_n (pc := 66) (i := 1) C dX6_walksRoute_66 rfl rfl ?_
        refine r_iload_n (pc := 67) (i := 2) C dX6_walksRoute_67 rfl rfl ?_
        refine r_callVV (pc := 68) (As := [.int v6, .int v9]) (st := []) C cs_X6_327_X6_pays h (fun _ e => w_X6_pays (Nat.le_refl 1) e) (fun _ e => t_X6_pays e) (Nat.le_trans (Nat.le_of_ble_eq_true rfl) hd) (Nat.le_of_ble_eq_true rfl) dX6_walksRoute_68 (fun σ16 h => ?_)
        refine r_aload_n (pc := 71) (i := 0) C dX6_walksRoute_71 rfl rfl ?_
        refine r_aload_n (pc := 72) (i := 0) C dX6_walksRoute_72 rfl rfl ?_
        refine r_getI (pc := 73) C fd_X6_373 rfl dX6_walksRoute_73 h (fun v17 h => ?_)
        refine r_iconst (pc := 76) (v := 1) C dX6_walksRoute_76 (by decide) ?_
        refine r_iadd (pc := 77) C dX6_walksRoute_77 ?_
        refine r_putI (pc := 78) C fd_X6_373 ft_X6_44 dX6_walksRoute_78 h (fun σ18 h => ?_)
        refine r_goto (pc := 81) (tgt := 10) C dX6_walksRoute_81 (by decide) ?_
        refine r_pick (lv' := [(0, rv B a0)]) [0] rfl ?_
        exact ih _ h
      · exact r_vret (pc := 49) C rfl dX6_walksRoute_49 h E
theorem w_X6_walksRoute {B F : Nat} {d : Nat} {σ : MM} {a0 : Nat} {σf : MM} (hd : 2 ≤ d) (h : g_X6_walksRoute F σ a0 = some σf) : xMA B yX6_walksRoute cX6_walksRoute 3 none d 0 0 [rv B a0] σ none σf := by
  refine xMA.of (by decide +kernel) (Nat.le_of_ble_eq_true rfl) (cat_rv cat_nil) (fun G C E => ?_)
  unfold g_X6_walksRoute at h
  obtain ⟨-, h⟩ := r_ck h
  refine r_aload_n (pc := 0) (i := 0) C dX6_walksRoute_0 rfl rfl ?_
  refine r_iconst (pc := 1) (v := 0) C dX6_walksRoute_1 (by decide) ?_
  refine r_putI (pc := 2) C fd_X6_373 ft_X6_44 dX6_walksRoute_2 h (fun σ1 h => ?_)
  refine r_aload_n (pc := 5) (i := 0) C dX6_walksRoute_5 rfl rfl ?_
  refine r_iconst (pc := 6) (v := 0) C dX6_walksRoute_6 (by decide) ?_
  refine r_putI (pc := 7) C fd_X6_376 ft_X6_45 dX6_walksRoute_7 h (fun σ2 h => ?_)
  refine r_pick (lv' := [(0, rv B a0)]) [0] rfl ?_
  refine wl_X6_walksRoute_10 hd C E (fun  σ19 h => ?_) _ _ h
  exact r_vret (pc := 84) C rfl dX6_walksRoute_84 h E
theorem t_X6_walksRoute {F : Nat} {σ : MM} {a0 : Nat} {r : MM} (h : g_X6_walksRoute F σ a0 = some r) : mT σ a0 = (5, 62) := by
  unfold g_X6_walksRoute at h
  exact (r_ck h).1
theorem yd_X6_readsRoute : xYd yX6_readsRoute 1 := ⟨by decide +kernel, by decide +kernel, by decide +kernel⟩
theorem cs_X6_379_X6_readsRoute : xCV RX6 379 yX6_readsRoute cX6_readsRoute 3 (some .int) 5 62 1 := ⟨by decide, by decide, _, rfl, yd_X6_readsRoute, Or.inl ⟨rfl, lw_V q1713 q1715 qs91 q122 q1716⟩⟩
theorem yd_X6_walksRoute : xYd yX6_walksRoute 0 := ⟨by decide +kernel, by decide +kernel, by decide +kernel⟩
theorem cs_X6_382_X6_walksRoute : xCV RX6 382 yX6_walksRoute cX6_walksRoute 3 none 5 62 0 := ⟨by decide, by decide, _, rfl, yd_X6_walksRoute, Or.inl ⟨rfl, lw_V q1729 q1731 qs95 q122 q1732⟩⟩
def g_X6_route (F : Nat) (σ : MM) (a0 : Nat) (x1 : Int32) (x2 : Int32) : Option (Int32 × MM) := if mT σ a0 = (5, 62) then (bq (g_X6_in F σ x1 1 60) fun v2 σ1 => if v2 = 0 then (some ((-1), σ1)) else (bq (g_X6_in F σ1 x2 0 2) fun v4 σ3 => if v4 = 0 then (some ((-1), σ3)) else ((gI σ3 a0 5 62 7).bind fun v5 => if v5 < x1 then (some ((-1), σ3)) else (bq (g_X6_readsRoute F σ3 a0 x1) fun v7 σ6 => if v7 = 0 then ((gP σ6 a0 5 62 0).bind fun p8 => (aI σ6 p8 20 151).bind fun v9 => if v9 < 0 then (some ((-2), σ6)) else ((gP σ6 a0 5 62 0).bind fun p10 => (gP σ6 a0 5 62 1).bind fun p11 => (g_X6_copies F σ6 p10 p11).bind fun σ12 => (g_X6_walksRoute F σ12 a0).bind fun σ13 => (gP σ13 a0 5 62 0).bind fun p14 => (aI σ13 p14 20 151).bind fun v15 => (gP σ13 a0 5 62 1).bind fun p16 => (gP σ13 a0 5 62 0).bind fun p17 => (g_X6_copies F σ13 p16 p17).bind fun σ18 => if x2 = 0 then ((gI σ18 a0 5 62 44).bind fun v20 => some (v20, σ18)) else (if x2 = 1 then ((gI σ18 a0 5 62 45).bind fun v19 => some (v19, σ18)) else (some (v15, σ18))))) else (some (v7, σ6)))))) else none
theorem w_X6_route {B F : Nat} {d : Nat} {σ : MM} {a0 : Nat} {x1 : Int32} {x2 : Int32} {rf : Int32} {σf : MM} (hd : 4 ≤ d) (h : g_X6_route F σ a0 x1 x2 = some (rf, σf)) : xMA B yX6_route cX6_route 5 (some .int) d 0 0 [rv B a0, .int x1, .int x2] σ (some (.int rf)) σf := by
  refine xMA.of (by decide +kernel) (Nat.le_of_ble_eq_true rfl) (cat_rv (cat_int (cat_int cat_nil))) (fun G C E => ?_)
  unfold g_X6_route at h
  obtain ⟨-, h⟩ := r_ck h
  refine r_iload_n (pc := 0) (i := 1) C dX6_route_0 rfl rfl ?_
  refine r_iconst (pc := 1) (v := 1) C dX6_route_1 (by decide) ?_
  refine r_bipush (pc := 2) (v := 60) C dX6_route_2 (by decide) ?_
  refine r_callSI (pc := 4) (As := [.int x1, .int 1, .int 60]) (st := []) C cs_X6_123_X6_in h (fun _ _ e => w_X6_in (Nat.le_refl 0) e) (Nat.le_trans (Nat.le_of_ble_eq_true rfl) hd) (Nat.le_of_ble_eq_true rfl) dX6_route_4 (fun v2 σ1 h => ?_)
  refine r_ifeq (pc := 7) (tgt := 27) C dX6_route_7 (by decide) h (fun h => ?_) (fun h => ?_)
  · refine r_iconst (pc := 27) (v := (-1)) C dX6_route_27 (by decide) ?_
    exact r_iret (pc := 28) C rfl dX6_route_28 h E
  · refine r_iload_n (pc := 10) (i := 2) C dX6_route_10 rfl rfl ?_
    refine r_iconst (pc := 11) (v := 0) C dX6_route_11 (by decide) ?_
    refine r_iconst (pc := 12) (v := 2) C dX6_route_12 (by decide) ?_
    refine r_callSI (pc := 13) (As := [.int x2, .int 0, .int 2]) (st := []) C cs_X6_123_X6_in h (fun _ _ e => w_X6_in (Nat.le_refl 0) e) (Nat.le_trans (Nat.le_of_ble_eq_true rfl) hd) (Nat.le_of_ble_eq_true rfl) dX6_route_13 (fun v4 σ3 h => ?_)
    refine r_ifeq (pc := 16) (tgt := 27) C dX6_route_16 (by decide) h (fun h => ?_) (fun h => ?_)
    · refine r_iconst (pc := 27) (v := (-1)) C dX6_route_27 (by decide) ?_
      exact r_iret (pc := 28) C rfl dX6_route_28 h E
    · refine r_iload_n (pc := 19) (i := 1) C dX6_route_19 rfl rfl ?_
      refine r_aload_n (pc := 20) (i := 0) C dX6_route_20 rfl rfl ?_
      refine r_getI (pc := 21) C fd_X6_160 rfl dX6_route_21 h (fun v5 h => ?_)
      refine r_icmple (pc := 24) (tgt := 29) C dX6_route_24 (by decide) h (fun h => ?_) (fun h => ?_)
      · refine r_aload_n (pc := 29) (i := 0) C dX6_route_29 rfl rfl ?_
        refine r_iload_n (pc := 30) (i := 1) C dX6_route_30 rfl rfl ?_
        refine r_callVI (pc := 31) (As := [.int x1]) (st := []) C cs_X6_379_X6_readsRoute h (fun _ _ e => w_X6_readsRoute (Nat.le_refl 3) e) (fun _ _ e => t_X6_readsRoute e) (Nat.le_trans (Nat.le_of_ble_eq_true rfl) hd) (Nat.le_of_ble_eq_true rfl) dX6_route_31 (fun v7 σ6 h => ?_)
        refine r_istore_n (pc := 34) (i := 3) C dX6_route_34 rfl (by decide) ?_
        refine r_iload_n (pc := 35) (i := 3) C dX6_route_35 rfl rfl ?_
        refine r_ifeq (pc := 36) (tgt := 41) C dX6_route_36 (by decide) h (fun h => ?_) (fun h => ?_)
        · refine r_aload_n (pc := 41) (i := 0) C dX6_route_41 rfl rfl ?_
          refine r_getP (pc := 42) C fd_X6_7 rfl dX6_route_42 h (fun p8 h => ?_)
          refine r_sipush (pc := 45) (v := 151) C dX6_route_45 (by decide) ?_
          refine r_iald (pc := 48) C dX6_route_48 h (fun v9 h => ?_)
          refine r_ifge (pc := 49) (tgt := 55) C dX6_route_49 (by decide) h (fun h => ?_) (fun h => ?_)
          · refine r_aload_n (pc := 55) (i := 0) C dX6_route_55 rfl rfl ?_
            refine r_getP (pc := 56) C fd_X6_7 rfl dX6_route_56 h (fun p10 h => ?_)
            refine r_aload_n (pc := 59) (i := 0) C dX6_route_59 rfl rfl ?_
            refine r_getP (pc := 60) C fd_X6_13 rfl dX6_route_60 h (fun p11 h => ?_)
            refine r_callSV (pc := 63) (As := [rv B p10, rv B p11]) (st := []) C cs_X6_345_X6_copies h (fun _ e => w_X6_copies (Nat.le_refl 0) e) (Nat.le_trans (Nat.le_of_ble_eq_true rfl) hd) (Nat.le_of_ble_eq_true rfl) dX6_route_63 (fun σ12 h => ?_)
            refine r_aload_n (pc := 66) (i := 0) C dX6_route_66 rfl rfl ?_
            refine r_callVV (pc := 67) (As := []) (st := []) C cs_X6_382_X6_walksRoute h (fun _ e => w_X6_walksRoute (Nat.le_refl 2) e) (fun _ e => t_X6_walksRoute e) (Nat.le_trans (Nat.le_of_ble_eq_true rfl) hd) (Nat.le_of_ble_eq_true rfl) dX6_route_67 (fun σ13 h => ?_)
            refine r_aload_n (pc := 70) (i := 0) C dX6_route_70 rfl rfl ?_
            refine r_getP (pc := 71) C fd_X6_7 rfl dX6_route_71 h (fun p14 h => ?_)
            refine r_sipush (pc := 74) (v := 151) C dX6_route_74 (by decide) ?_
            refine r_iald (pc := 77) C dX6_route_77 h (fun v15 h => ?_)
            refine r_istore (pc := 78) (i := 4) C dX6_route_78 (by decide) ?_
            refine r_aload_n (pc := 80) (i := 0) C dX6_route_80 rfl rfl ?_
            refine r_getP (pc := 81) C fd_X6_13 rfl dX6_route_81 h (fun p16 h => ?_)
            refine r_aload_n (pc := 84) (i := 0) C dX6_route_84 rfl rfl ?_
            refine r_getP (pc := 85) C fd_X6_7 rfl dX6_route_85 h (fun p17 h => ?_)
            refine r_callSV (pc := 88) (As := [rv B p16, rv B p17]) (st := []) C cs_X6_345_X6_copies h (fun _ e => w_X6_copies (Nat.le_refl 0) e) (Nat.le_trans (Nat.le_of_ble_eq_true rfl) hd) (Nat.le_of_ble_eq_true rfl) dX6_route_88 (fun σ18 h => ?_)
            refine r_iload_n (pc := 91) (i := 2) C dX6_route_91 rfl rfl ?_
            refine r_ifne (pc := 92) (tgt := 102) C dX6_route_92 (by decide) h (fun h => ?_) (fun h => ?_)
            · refine r_iload_n (pc := 102) (i := 2) C dX6_route_102 rfl rfl ?_
              refine r_iconst (pc := 103) (v := 1) C dX6_route_103 (by decide) ?_
              refine r_icmpne (pc := 104) (tgt := 114) C dX6_route_104 (by decide) h (fun h => ?_) (fun h => ?_)
              · refine r_iload (pc := 114) (i := 4) C dX6_route_114 rfl ?_
                exact r_iret (pc := 116) C rfl dX6_route_116 h E
              · refine r_aload_n (pc := 107) (i := 0) C dX6_route_107 rfl rfl ?_
                refine r_getI (pc := 108) C fd_X6_376 rfl dX6_route_108 h (fun v19 h => ?_)
                refine r_goto (pc := 111) (tgt := 116) C dX6_route_111 (by decide) ?_
                exact r_iret (pc := 116) C rfl dX6_route_116 h E
            · refine r_aload_n (pc := 95) (i := 0) C dX6_route_95 rfl rfl ?_
              refine r_getI (pc := 96) C fd_X6_373 rfl dX6_route_96 h (fun v20 h => ?_)
              refine r_goto (pc := 99) (tgt := 116) C dX6_route_99 (by decide) ?_
              exact r_iret (pc := 116) C rfl dX6_route_116 h E
          · refine r_bipush (pc := 52) (v := (-2)) C dX6_route_52 (by decide) ?_
            exact r_iret (pc := 54) C rfl dX6_route_54 h E
        · refine r_iload_n (pc := 39) (i := 3) C dX6_route_39 rfl rfl ?_
          exact r_iret (pc := 40) C rfl dX6_route_40 h E
      · refine r_iconst (pc := 27) (v := (-1)) C dX6_route_27 (by decide) ?_
        exact r_iret (pc := 28) C rfl dX6_route_28 h E
theorem t_X6_route {F : Nat} {σ : MM} {a0 : Nat} {x1 : Int32} {x2 : Int32} {r : Int32 × MM} (h : g_X6_route F σ a0 x1 x2 = some r) : mT σ a0 = (5, 62) := by
  unfold g_X6_route at h
  exact (r_ck h).1
def g_X6_walk (F : Nat) (σ : MM) (a0 : Nat) (x1 : Int32) : Option (Int32 × MM) := if mT σ a0 = (5, 62) then (bq (g_X6_in F σ x1 1 60) fun v2 σ1 => if v2 = 0 then (some ((-1), σ1)) else ((gI σ1 a0 5 62 7).bind fun v3 => if v3 < x1 then (some ((-1), σ1)) else (bq (g_X6_readsRoute F σ1 a0 x1) fun v5 σ4 => if v5 = 0 then ((gP σ4 a0 5 62 0).bind fun p6 => (aI σ4 p6 20 151).bind fun v7 => if v7 < 0 then (some ((-2), σ4)) else ((g_X6_walksRoute F σ4 a0).bind fun σ8 => (gI σ8 a0 5 62 44).bind fun v9 => some (v9, σ8))) else (some (v5, σ4))))) else none
theorem w_X6_walk {B F : Nat} {d : Nat} {σ : MM} {a0 : Nat} {x1 : Int32} {rf : Int32} {σf : MM} (hd : 4 ≤ d) (h : g_X6_walk F σ a0 x1 = some (rf, σf)) : xMA B yX6_walk cX6_walk 3 (some .int) d 0 0 [rv B a0, .int x1] σ (some (.int rf)) σf := by
  refine xMA.of (by decide +kernel) (Nat.le_of_ble_eq_true rfl) (cat_rv (cat_int cat_nil)) (fun G C E => ?_)
  unfold g_X6_walk at h
  obtain ⟨-, h⟩ := r_ck h
  refine r_iload_n (pc := 0) (i := 1) C dX6_walk_0 rfl rfl ?_
  refine r_iconst (pc := 1) (v := 1) C dX6_walk_1 (by decide) ?_
  refine r_bipush (pc := 2) (v := 60) C dX6_walk_2 (by decide) ?_
  refine r_callSI (pc := 4) (As := [.int x1, .int 1, .int 60]) (st := []) C cs_X6_123_X6_in h (fun _ _ e => w_X6_in (Nat.le_refl 0) e) (Nat.le_trans (Nat.le_of_ble_eq_true rfl) hd) (Nat.le_of_ble_eq_true rfl) dX6_walk_4 (fun v2 σ1 h => ?_)
  refine r_ifeq (pc := 7) (tgt := 18) C dX6_walk_7 (by decide) h (fun h => ?_) (fun h => ?_)
  · refine r_iconst (pc := 18) (v := (-1)) C dX6_walk_18 (by decide) ?_
    exact r_iret (pc := 19) C rfl dX6_walk_19 h E
  · refine r_iload_n (pc := 10) (i := 1) C dX6_walk_10 rfl rfl ?_
    refine r_aload_n (pc := 11) (i := 0) C dX6_walk_11 rfl rfl ?_
    refine r_getI (pc := 12) C fd_X6_160 rfl dX6_walk_12 h (fun v3 h => ?_)
    refine r_icmple (pc := 15) (tgt := 20) C dX6_walk_15 (by decide) h (fun h => ?_) (fun h => ?_)
    · refine r_aload_n (pc := 20) (i := 0) C dX6_walk_20 rfl rfl ?_
      refine r_iload_n (pc := 21) (i := 1) C dX6_walk_21 rfl rfl ?_
      refine r_callVI (pc := 22) (As := [.int x1]) (st := []) C cs_X6_379_X6_readsRoute h (fun _ _ e => w_X6_readsRoute (Nat.le_refl 3) e) (fun _ _ e => t_X6_readsRoute e) (Nat.le_trans (Nat.le_of_ble_eq_true rfl) hd) (Nat.le_of_ble_eq_true rfl) dX6_walk_22 (fun v5 σ4 h => ?_)
      refine r_istore_n (pc := 25) (i := 2) C dX6_walk_25 rfl (by decide) ?_
      refine r_iload_n (pc := 26) (i := 2) C dX6_walk_26 rfl rfl ?_
      refine r_ifeq (pc := 27) (tgt := 32) C dX6_walk_27 (by decide) h (fun h => ?_) (fun h => ?_)
      · refine r_aload_n (pc := 32) (i := 0) C dX6_walk_32 rfl rfl ?_
        refine r_getP (pc := 33) C fd_X6_7 rfl dX6_walk_33 h (fun p6 h => ?_)
        refine r_sipush (pc := 36) (v := 151) C dX6_walk_36 (by decide) ?_
        refine r_iald (pc := 39) C dX6_walk_39 h (fun v7 h => ?_)
        refine r_ifge (pc := 40) (tgt := 46) C dX6_walk_40 (by decide) h (fun h => ?_) (fun h => ?_)
        · refine r_aload_n (pc := 46) (i := 0) C dX6_walk_46 rfl rfl ?_
          refine r_callVV (pc := 47) (As := []) (st := []) C cs_X6_382_X6_walksRoute h (fun _ e => w_X6_walksRoute (Nat.le_refl 2) e) (fun _ e => t_X6_walksRoute e) (Nat.le_trans (Nat.le_of_ble_eq_true rfl) hd) (Nat.le_of_ble_eq_true rfl) dX6_walk_47 (fun σ8 h => ?_)
          refine r_aload_n (pc := 50) (i := 0) C dX6_walk_50 rfl rfl ?_
          refine r_getI (pc := 51) C fd_X6_373 rfl dX6_walk_51 h (fun v9 h => ?_)
          exact r_iret (pc := 54) C rfl dX6_walk_54 h E
        · refine r_bipush (pc := 43) (v := (-2)) C dX6_walk_43 (by decide) ?_
          exact r_iret (pc := 45) C rfl dX6_walk_45 h E
      · refine r_iload_n (pc := 30) (i := 2) C dX6_walk_30 rfl rfl ?_
        exact r_iret (pc := 31) C rfl dX6_walk_31 h E
    · refine r_iconst (pc := 18) (v := (-1)) C dX6_walk_18 (by decide) ?_
      exact r_iret (pc := 19) C rfl dX6_walk_19 h E
theorem t_X6_walk {F : Nat} {σ : MM} {a0 : Nat} {x1 : Int32} {r : Int32 × MM} (h : g_X6_walk F σ a0 x1 = some r) : mT σ a0 = (5, 62) := by
  unfold g_X6_walk at h
  exact (r_ck h).1
theorem fd_X6_83 : xFg RX6 83 5 62 46 := ⟨_, rfl, rfl, by decide, by decide, in_X6, Or.inl q1311⟩
theorem ft_X6_46 : xFt 5 46 (.array .int) true := ⟨_, rfl, by decide +kernel, rfl, rfl⟩
def g_X6_leftOf (F : Nat) (σ : MM) (a0 : Nat) (x1 : Int32) (x2 : Int32) : Option (Int32 × MM) := if mT σ a0 = (5, 62) then ((gP σ a0 5 62 46).bind fun p1 => (aI σ p1 20 (((10 * x1) + x2))).bind fun v2 => some (v2, σ)) else none
theorem w_X6_leftOf {B F : Nat} {d : Nat} {σ : MM} {a0 : Nat} {x1 : Int32} {x2 : Int32} {rf : Int32} {σf : MM} (hd : 0 ≤ d) (h : g_X6_leftOf F σ a0 x1 x2 = some (rf, σf)) : xMA B yX6_leftOf cX6_leftOf 3 (some .int) d 0 0 [rv B a0, .int x1, .int x2] σ (some (.int rf)) σf := by
  refine xMA.of (by decide +kernel) (Nat.le_of_ble_eq_true rfl) (cat_rv (cat_int (cat_int cat_nil))) (fun G C E => ?_)
  unfold g_X6_leftOf at h
  obtain ⟨-, h⟩ := r_ck h
  refine r_aload_n (pc := 0) (i := 0) C dX6_leftOf_0 rfl rfl ?_
  refine r_getP (pc := 1) C fd_X6_83 rfl dX6_leftOf_1 h (fun p1 h => ?_)
  refine r_bipush (pc := 4) (v := 10) C dX6_leftOf_4 (by decide) ?_
  refine r_iload_n (pc := 6) (i := 1) C dX6_leftOf_6 rfl rfl ?_
  refine r_imul (pc := 7) C dX6_leftOf_7 ?_
  refine r_iload_n (pc := 8) (i := 2) C dX6_leftOf_8 rfl rfl ?_
  refine r_iadd (pc := 9) C dX6_leftOf_9 ?_
  refine r_iald (pc := 10) C dX6_leftOf_10 h (fun v2 h => ?_)
  exact r_iret (pc := 11) C rfl dX6_leftOf_11 h E
theorem t_X6_leftOf {F : Nat} {σ : MM} {a0 : Nat} {x1 : Int32} {x2 : Int32} {r : Int32 × MM} (h : g_X6_leftOf F σ a0 x1 x2 = some r) : mT σ a0 = (5, 62) := by
  unfold g_X6_leftOf at h
  exact (r_ck h).1
theorem yd_X6_leftOf : xYd yX6_leftOf 2 := ⟨by decide +kernel, by decide +kernel, by decide +kernel⟩
theorem cs_X6_385_X6_leftOf : xCV RX6 385 yX6_leftOf cX6_leftOf 3 (some .int) 5 62 2 := ⟨by decide, by decide, _, rfl, yd_X6_leftOf, Or.inl ⟨rfl, lw_V q1753 q1755 qs99 q122 q1756⟩⟩
def l_X6_reachLeft_26 (K : Int32 → MM → Option (Int32 × MM)) (F : Nat) (a0 : Nat) (x3 : Int32) (x4 : Int32) : Nat → Int32 → Int32 → MM → Option (Int32 × MM)
  | 0, _, _, _ => none
  | f + 1, z2, z5, σ => if z5 < 10 then (bq (g_X6_has F σ z2 x4) fun v2 σ1 => if v2 = 0 then (l_X6_reachLeft_26 K F a0 x3 x4 f z2 ((z5 + 1)) σ1) else (bq (g_X6_leftOf F σ1 a0 x4 z5) fun v4 σ3 => if 0 < v4 then (l_X6_reachLeft_26 K F a0 x3 x4 f ((z2 ||| ((1 : Int32) <<< (z5 &&& 31)))) ((z5 + 1)) σ3) else (l_X6_reachLeft_26 K F a0 x3 x4 f z2 ((z5 + 1)) σ3))) else (K z2 σ)
def l_X6_reachLeft_16 (K : Int32 → MM → Option (Int32 × MM)) (F : Nat) (a0 : Nat) (x3 : Int32) : Nat → Int32 → Int32 → MM → Option (Int32 × MM)
  | 0, _, _, _ => none
  | f + 1, z2, z4, σ => if z4 < 10 then (l_X6_reachLeft_26 (fun (r2_6 : Int32) (σ5 : MM) => l_X6_reachLeft_16 K F a0 x3 f r2_6 ((z4 + 1)) σ5) F a0 x3 z4 F z2 0 σ) else (K z2 σ)
def l_X6_reachLeft_6 (K : Int32 → MM → Option (Int32 × MM)) (F : Nat) (a0 : Nat) : Nat → Int32 → Int32 → MM → Option (Int32 × MM)
  | 0, _, _, _ => none
  | f + 1, z2, z3, σ => if z2 = z3 then (K z2 σ) else (l_X6_reachLeft_16 (fun (r2_8 : Int32) (σ7 : MM) => l_X6_reachLeft_6 K F a0 f r2_8 z2 σ7) F a0 z2 F z2 0 σ)
def g_X6_reachLeft (F : Nat) (σ : MM) (a0 : Nat) (x1 : Int32) : Option (Int32 × MM) := if mT σ a0 = (5, 62) then (l_X6_reachLeft_6 (fun (r2_10 : Int32) (σ9 : MM) => some (r2_10, σ9)) F a0 F (((1 : Int32) <<< (x1 &&& 31))) 0 σ) else none
theorem wl_X6_reachLeft_26 {B : Nat} {G : XG} {d : Nat} {rf : Int32} {σf : MM} (hd : 1 ≤ d) (C : xC B G yX6_reachLeft cX6_reachLeft 6 (some .int) d 0 0) (E : xEnd B G (some (.int rf)) σf 0 0) {K : Int32 → MM → Option (Int32 × MM)} {F : Nat} {a0 : Nat} {x3 : Int32} {x4 : Int32} (hK : ∀ (q2 : Int32) (σ : MM), K q2 σ = some (rf, σf) → xV B G 0 0 σ 66 [(0, rv B a0), (2, .int q2), (3, .int x3), (4, .int x4)] []) : ∀ (f : Nat) (z2 : Int32) (z5 : Int32) (σ : MM), l_X6_reachLeft_26 K F a0 x3 x4 f z2 z5 σ = some (rf, σf) → xV B G 0 0 σ 26 [(0, rv B a0), (2, .int z2), (3, .int x3), (4, .int x4), (5, .int z5)] [] := by
  intro f
  induction f with
  | zero =>
    intro z2 z5 σ h
    have h : none = some (rf, σf) := h
    cases h
  | succ f ih =>
    intro z2 z5 σ h
    rw [l_X6_reachLeft_26.eq_2] at h
    refine r_iload (pc := 26) (i := 5) C dX6_reachLeft_26 rfl ?_
    refine r_bipush (pc := 28) (v := 10) C dX6_reachLeft_28 (by decide) ?_
    refine r_icmpge (pc := 30) (tgt := 66) C dX6_reachLeft_30 (by decide) h (fun h => ?_) (fun h => ?_)
    · refine r_pick (lv' := [(0, rv B a0), (2, .int z2), (3, .int x3), (4, .int x4)]) [0, 2, 3, 4] rfl ?_
      exact hK _ _ h
    · refine r_iload_n (pc := 33) (i := 2) C dX6_reachLeft_33 rfl rfl ?_
      refine r_iload (pc := 34) (i := 4) C dX6_reachLeft_34 rfl ?_
      refine r_callSI (pc := 36) (As := [.int z2, .int x4]) (st := []) C cs_X6_131_X6_has h (fun _ _ e => w_X6_has (Nat.le_refl 0) e) (Nat.le_trans (Nat.le_of_ble_eq_true rfl) hd) (Nat.le_of_ble_eq_true rfl) dX6_reachLeft_36 (fun v2 σ1 h => ?_)
      refine r_ifeq (pc := 39) (tgt := 60) C dX6_reachLeft_39 (by decide) h (fun h => ?_) (fun h => ?_)
      · refine r_iinc (pc := 60) (i := 5) (v := (z5 + 1)) C dX6_reachLeft_60 rfl rfl (by decide) ?_
        refine r_goto (pc := 63) (tgt := 26) C dX6_reachLeft_63 (by decide) ?_
        refine r_pick (lv' := [(0, rv B a0), (2, .int z2), (3, .int x3), (4, .int x4), (5, .int (z5 + 1))]) [0, 2, 3, 4, 5] rfl ?_
        exact ih _ _ _ h
      · refine r_aload_n (pc := 42) (i := 0) C dX6_reachLeft_42 rfl rfl ?_
        refine r_iload (pc := 43) (i := 4) C dX6_reachLeft_43 rfl ?_
        refine r_iload (pc := 45) (i := 5) C dX6_reachLeft_45 rfl ?_
        refine r_callVI (pc := 47) (As := [.int x4, .int z5]) (st := []) C cs_X6_385_X6_leftOf h (fun _ _ e => w_X6_leftOf (Nat.le_refl 0) e) (fun _ _ e => t_X6_leftOf e) (Nat.le_trans (Nat.le_of_ble_eq_true rfl) hd) (Nat.le_of_ble_eq_true rfl) dX6_reachLeft_47 (fun v4 σ3 h => ?_)
        refine r_ifle (pc := 50) (tgt := 60) C dX6_reachLeft_50 (by decide) h (fun h => ?_) (fun h => ?_)
        · refine r_iinc (pc := 60) (i := 5) (v := (z5 + 1)) C dX6_reachLeft_60 rfl rfl (by decide) ?_
          refine r_goto (pc := 63) (tgt := 26) C dX6_reachLeft_63 (by decide) ?_
          refine r_pick (lv' := [(0, rv B a0), (2, .int z2), (3, .int x3), (4, .int x4), (5, .int (z5 + 1))]) [0, 2, 3, 4, 5] rfl ?_
          exact ih _ _ _ h
        · refine r_iload_n (pc := 53) (i := 2) C dX6_reachLeft_53 rfl rfl ?_
          refine r_iconst (pc := 54) (v := 1) C dX6_reachLeft_54 (by decide) ?_
          refine r_iload (pc := 55) (i := 5) C dX6_reachLeft_55 rfl ?_
          refine r_ishl (pc := 57) C dX6_reachLeft_57 ?_
          refine r_ior (pc := 58) C dX6_reachLeft_58 ?_
          refine r_istore_n (pc := 59) (i := 2) C dX6_reachLeft_59 rfl (by decide) ?_
          refine r_iinc (pc := 60) (i := 5) (v := (z5 + 1)) C dX6_reachLeft_60 rfl rfl (by decide) ?_
          refine r_goto (pc := 63) (tgt := 26) C dX6_reachLeft_63 (by decide) ?_
          refine r_pick (lv' := [(0, rv B a0), (2, .int (z2 ||| ((1 : Int32) <<< (z5 &&& 31)))), (3, .int x3), (4, .int x4), (5, .int (z5 + 1))]) [0, 2, 3, 4, 5] rfl ?_
          exact ih _ _ _ h
theorem wl_X6_reachLeft_16 {B : Nat} {G : XG} {d : Nat} {rf : Int32} {σf : MM} (hd : 1 ≤ d) (C : xC B G yX6_reachLeft cX6_reachLeft 6 (some .int) d 0 0) (E : xEnd B G (some (.int rf)) σf 0 0) {K : Int32 → MM → Option (Int32 × MM)} {F : Nat} {a0 : Nat} {x3 : Int32} (hK : ∀ (q2 : Int32) (σ : MM), K q2 σ = some (rf, σf) → xV B G 0 0 σ 72 [(0, rv B a0), (2, .int q2), (3, .int x3)] []) : ∀ (f : Nat) (z2 : Int32) (z4 : Int32) (σ : MM), l_X6_reachLeft_16 K F a0 x3 f z2 z4 σ = some (rf, σf) → xV B G 0 0 σ 16 [(0, rv B a0), (2, .int z2), (3, .int x3), (4, .int z4)] [] := by
  intro f
  induction f with
  | zero =>
    intro z2 z4 σ h
    have h : none = some (rf, σf) := h
    cases h
  | succ f ih =>
    intro z2 z4 σ h
    rw [l_X6_reachLeft_16.eq_2] at h
    refine r_iload (pc := 16) (i := 4) C dX6_reachLeft_16 rfl ?_
    refine r_bipush (pc := 18) (v := 10) C dX6_reachLeft_18 (by decide) ?_
    refine r_icmpge (pc := 20) (tgt := 72) C dX6_reachLeft_20 (by decide) h (fun h => ?_) (fun h => ?_)
    · refine r_pick (lv' := [(0, rv B a0), (2, .int z2), (3, .int x3)]) [0, 2, 3] rfl ?_
      exact hK _ _ h
    · refine r_iconst (pc := 23) (v := 0) C dX6_reachLeft_23 (by decide) ?_
      refine r_istore (pc := 24) (i := 5) C dX6_reachLeft_24 (by decide) ?_
      refine r_pick (lv' := [(0, rv B a0), (2, .int z2), (3, .int x3), (4, .int z4), (5, .int 0)]) [0, 2, 3, 4, 5] rfl ?_
      refine wl_X6_reachLeft_26 hd C E (fun r2_6 σ5 h => ?_) _ _ _ _ h
      refine r_iinc (pc := 66) (i := 4) (v := (z4 + 1)) C dX6_reachLeft_66 rfl rfl (by decide) ?_
      refine r_goto (pc := 69) (tgt := 16) C dX6_reachLeft_69 (by decide) ?_
      refine r_pick (lv' := [(0, rv B a0), (2, .int r2_6), (3, .int x3), (4, .int (z4 + 1))]) [0, 2, 3, 4] rfl ?_
      exact ih _ _ _ h
theorem wl_X6_reachLeft_6 {B : Nat} {G : XG} {d : Nat} {rf : Int32} {σf : MM} (hd : 1 ≤ d) (C : xC B G yX6_reachLeft cX6_reachLeft 6 (some .int) d 0 0) (E : xEnd B G (some (.int rf)) σf 0 0) {K : Int32 → MM → Option (Int32 × MM)} {F : Nat} {a0 : Nat} (hK : ∀ (q2 : Int32) (σ : MM), K q2 σ = some (rf, σf) → xV B G 0 0 σ 75 [(2, .int q2)] []) : ∀ (f : Nat) (z2 : Int32) (z3 : Int32) (σ : MM), l_X6_reachLeft_6 K F a0 f z2 z3 σ = some (rf, σf) → xV B G 0 0 σ 6 [(0, rv B a0), (2, .int z2), (3, .int z3)] [] := by
  intro f
  induction f with
  | zero =>
    intro z2 z3 σ h
    have h : none = some (rf, σf) := h
    cases h
  | succ f ih =>
    intro z2 z3 σ h
    rw [l_X6_reachLeft_6.eq_2] at h
    refine r_iload_n (pc := 6) (i := 2) C dX6_reachLeft_6 rfl rfl ?_
    refine r_iload_n (pc := 7) (i := 3) C dX6_reachLeft_7 rfl rfl ?_
    refine r_icmpeq (pc := 8) (tgt := 75) C dX6_reachLeft_8 (by decide) h (fun h => ?_) (fun h => ?_)
    · refine r_pick (lv' := [(2, .int z2)]) [2] rfl ?_
      exact hK _ _ h
    · refine r_iload_n (pc := 11) (i := 2) C dX6_reachLeft_11 rfl rfl ?_
      refine r_istore_n (pc := 12) (i := 3) C dX6_reachLeft_12 rfl (by decide) ?_
      refine r_iconst (pc := 13) (v := 0) C dX6_reachLeft_13 (by decide) ?_
      refine r_istore (pc := 14) (i := 4) C dX6_reachLeft_14 (by decide) ?_
      refine r_pick (lv' := [(0, rv B a0), (2, .int z2), (3, .int z2), (4, .int 0)]) [0, 2, 3, 4] rfl ?_
      refine wl_X6_reachLeft_16 hd C E (fun r2_8 σ7 h => ?_) _ _ _ _ h
      refine r_goto (pc := 72) (tgt := 6) C dX6_reachLeft_72 (by decide) ?_
      refine r_pick (lv' := [(0, rv B a0), (2, .int r2_8), (3, .int z2)]) [0, 2, 3] rfl ?_
      exact ih _ _ _ h
theorem w_X6_reachLeft {B F : Nat} {d : Nat} {σ : MM} {a0 : Nat} {x1 : Int32} {rf : Int32} {σf : MM} (hd : 1 ≤ d) (h : g_X6_reachLeft F σ a0 x1 = some (rf, σf)) : xMA B yX6_reachLeft cX6_reachLeft 6 (some .int) d 0 0 [rv B a0, .int x1] σ (some (.int rf)) σf := by
  refine xMA.of (by decide +kernel) (Nat.le_of_ble_eq_true rfl) (cat_rv (cat_int cat_nil)) (fun G C E => ?_)
  unfold g_X6_reachLeft at h
  obtain ⟨-, h⟩ := r_ck h
  refine r_iconst (pc := 0) (v := 1) C dX6_reachLeft_0 (by decide) ?_
  refine r_iload_n (pc := 1) (i := 1) C dX6_reachLeft_1 rfl rfl ?_
  refine r_ishl (pc := 2) C dX6_reachLeft_2 ?_
  refine r_istore_n (pc := 3) (i := 2) C dX6_reachLeft_3 rfl (by decide) ?_
  refine r_iconst (pc := 4) (v := 0) C dX6_reachLeft_4 (by decide) ?_
  refine r_istore_n (pc := 5) (i := 3) C dX6_reachLeft_5 rfl (by decide) ?_
  refine r_pick (lv' := [(0, rv B a0), (2, .int ((1 : Int32) <<< (x1 &&& 31))), (3, .int 0)]) [0, 2, 3] rfl ?_
  refine wl_X6_reachLeft_6 hd C E (fun r2_10 σ9 h => ?_) _ _ _ _ h
  refine r_iload_n (pc := 75) (i := 2) C dX6_reachLeft_75 rfl rfl ?_
  exact r_iret (pc := 76) C rfl dX6_reachLeft_76 h E
theorem t_X6_reachLeft {F : Nat} {σ : MM} {a0 : Nat} {x1 : Int32} {r : Int32 × MM} (h : g_X6_reachLeft F σ a0 x1 = some r) : mT σ a0 = (5, 62) := by
  unfold g_X6_reachLeft at h
  exact (r_ck h).1
theorem yd_X6_reachLeft : xYd yX6_reachLeft 1 := ⟨by decide +kernel, by decide +kernel, by decide +kernel⟩
theorem cs_X6_388_X6_reachLeft : xCV RX6 388 yX6_reachLeft cX6_reachLeft 6 (some .int) 5 62 1 := ⟨by decide, by decide, _, rfl, yd_X6_reachLeft, Or.inl ⟨rfl, lw_V q1749 q1751 qs98 q122 q1752⟩⟩
def l_X6_isRow_30 (K : Int32 → Int32 → MM → Option (Int32 × MM)) (F : Nat) (a0 : Nat) (x1 : Int32) (x2 : Int32) (x3 : Int32) (x4 : Int32) (x5 : Int32) : Nat → Int32 → Int32 → Int32 → MM → Option (Int32 × MM)
  | 0, _, _, _, _ => none
  | f + 1, z6, z7, z8, σ => if z8 < 10 then (bq (g_X6_leftOf F σ a0 x5 z8) fun v4 σ3 => bq (g_X6_leftOf F σ3 a0 z8 x5) fun v6 σ5 => l_X6_isRow_30 K F a0 x1 x2 x3 x4 x5 f ((z6 + v4)) ((z7 + v6)) ((z8 + 1)) σ5) else (K z6 z7 σ)
def l_X6_isRow_14 (K : Int32 → Int32 → MM → Option (Int32 × MM)) (F : Nat) (a0 : Nat) (x1 : Int32) (x2 : Int32) : Nat → Int32 → Int32 → Int32 → MM → Option (Int32 × MM)
  | 0, _, _, _, _ => none
  | f + 1, z3, z4, z5, σ => if z5 < 10 then (l_X6_isRow_30 (fun (r6_8 : Int32) (r7_9 : Int32) (σ7 : MM) => jn (fun (σ10 : MM) => if (r7_9 + 1) < r6_8 then (some (0, σ10)) else (jn (fun (y3_13 : Int32) (σ12 : MM) => if z5 = x1 then (l_X6_isRow_14 K F a0 x1 x2 f y3_13 ((r6_8 - r7_9)) ((z5 + 1)) σ12) else (l_X6_isRow_14 K F a0 x1 x2 f y3_13 z4 ((z5 + 1)) σ12)) (fun k14 => if r7_9 < r6_8 then (k14 ((z3 + 1)) σ10) else (k14 z3 σ10)))) (fun k11 => if 0 < r6_8 then (bq (g_X6_has F σ7 x2 z5) fun v16 σ15 => if v16 = 0 then (some (0, σ15)) else (k11 σ15)) else (k11 σ7))) F a0 x1 x2 z3 z4 z5 F 0 0 0 σ) else (K z3 z4 σ)
def g_X6_isRow (F : Nat) (σ : MM) (a0 : Nat) (x1 : Int32) : Option (Int32 × MM) := if mT σ a0 = (5, 62) then (bq (g_X6_reachLeft F σ a0 x1) fun v2 σ1 => l_X6_isRow_14 (fun (r3_18 : Int32) (r4_19 : Int32) (σ17 : MM) => jn (fun (σ20 : MM) => if r3_18 = 1 then (if r4_19 = 1 then (some (1, σ20)) else (some (0, σ20))) else (some (0, σ20))) (fun k21 => if r3_18 = 0 then (if r4_19 = 0 then (some (1, σ17)) else (k21 σ17)) else (k21 σ17))) F a0 x1 v2 F 0 0 0 σ1) else none
theorem wl_X6_isRow_30 {B : Nat} {G : XG} {d : Nat} {rf : Int32} {σf : MM} (hd : 2 ≤ d) (C : xC B G yX6_isRow cX6_isRow 9 (some .boolean) d 0 0) (E : xEnd B G (some (.int rf)) σf 0 0) {K : Int32 → Int32 → MM → Option (Int32 × MM)} {F : Nat} {a0 : Nat} {x1 : Int32} {x2 : Int32} {x3 : Int32} {x4 : Int32} {x5 : Int32} (hK : ∀ (q6 : Int32) (q7 : Int32) (σ : MM), K q6 q7 σ = some (rf, σf) → xV B G 0 0 σ 69 [(0, rv B a0), (1, .int x1), (2, .int x2), (3, .int x3), (4, .int x4), (5, .int x5), (6, .int q6), (7, .int q7)] []) : ∀ (f : Nat) (z6 : Int32) (z7 : Int32) (z8 : Int32) (σ : MM), l_X6_isRow_30 K F a0 x1 x2 x3 x4 x5 f z6 z7 z8 σ = some (rf, σf) → xV B G 0 0 σ 30 [(0, rv B a0), (1, .int x1), (2, .int x2), (3, .int x3), (4, .int x4), (5, .int x5), (6, .int z6), (7, .int z7), (8, .int z8)] [] := by
  intro f
  induction f with
  | zero =>
    intro z6 z7 z8 σ h
    have h : none = some (rf, σf) := h
    cases h
  | succ f ih =>
    intro z6 z7 z8 σ h
    rw [l_X6_isRow_30.eq_2] at h
    refine r_iload (pc := 30) (i := 8) C dX6_isRow_30 rfl ?_
    refine r_bipush (pc := 32) (v := 10) C dX6_isRow_32 (by decide) ?_
    refine r_icmpge (pc := 34) (tgt := 69) C dX6_isRow_34 (by decide) h (fun h => ?_) (fun h => ?_)
    · refine r_pick (lv' := [(0, rv B a0), (1, .int x1), (2, .int x2), (3, .int x3), (4, .int x4), (5, .int x5), (6, .int z6), (7, .int z7)]) [0, 1, 2, 3, 4, 5, 6, 7] rfl ?_
      exact hK _ _ _ h
    · refine r_iload (pc := 37) (i := 6) C dX6_isRow_37 rfl ?_
      refine r_aload_n (pc := 39) (i := 0) C dX6_isRow_39 rfl rfl ?_
      refine r_iload (pc := 40) (i := 5) C dX6_isRow_40 rfl ?_
      refine r_iload (pc := 42) (i := 8) C dX6_isRow_42 rfl ?_
      refine r_callVI (pc := 44) (As := [.int x5, .int z8]) (st := [.int z6]) C cs_X6_385_X6_leftOf h (fun _ _ e => w_X6_leftOf (Nat.le_refl 0) e) (fun _ _ e => t_X6_leftOf e) (Nat.le_trans (Nat.le_of_ble_eq_true rfl) hd) (Nat.le_of_ble_eq_true rfl) dX6_isRow_44 (fun v4 σ3 h => ?_)
      refine r_iadd (pc := 47) C dX6_isRow_47 ?_
      refine r_istore (pc := 48) (i := 6) C dX6_isRow_48 (by decide) ?_
      refine r_iload (pc := 50) (i := 7) C dX6_isRow_50 rfl ?_
      refine r_aload_n (pc := 52) (i := 0) C dX6_isRow_52 rfl rfl ?_
      refine r_iload (pc := 53) (i := 8) C dX6_isRow_53 rfl ?_
      refine r_iload (pc := 55) (i := 5) C dX6_isRow_55 rfl ?_
      refine r_callVI (pc := 57) (As := [.int z8, .int x5]) (st := [.int z7]) C cs_X6_385_X6_leftOf h (fun _ _ e => w_X6_leftOf (Nat.le_refl 0) e) (fun _ _ e => t_X6_leftOf e) (Nat.le_trans (Nat.le_of_ble_eq_true rfl) hd) (Nat.le_of_ble_eq_true rfl) dX6_isRow_57 (fun v6 σ5 h => ?_)
      refine r_iadd (pc := 60) C dX6_isRow_60 ?_
      refine r_istore (pc := 61) (i := 7) C dX6_isRow_61 (by decide) ?_
      refine r_iinc (pc := 63) (i := 8) (v := (z8 + 1)) C dX6_isRow_63 rfl rfl (by decide) ?_
      refine r_goto (pc := 66) (tgt := 30) C dX6_isRow_66 (by decide) ?_
      refine r_pick (lv' := [(0, rv B a0), (1, .int x1), (2, .int x2), (3, .int x3), (4, .int x4), (5, .int x5), (6, .int (z6 + v4)), (7, .int (z7 + v6)), (8, .int (z8 + 1))]) [0, 1, 2, 3, 4, 5, 6, 7, 8] rfl ?_
      exact ih _ _ _ _ h
theorem wl_X6_isRow_14 {B : Nat} {G : XG} {d : Nat} {rf : Int32} {σf : MM} (hd : 2 ≤ d) (C : xC B G yX6_isRow cX6_isRow 9 (some .boolean) d 0 0) (E : xEnd B G (some (.int rf)) σf 0 0) {K : Int32 → Int32 → MM → Option (Int32 × MM)} {F : Nat} {a0 : Nat} {x1 : Int32} {x2 : Int32} (hK : ∀ (q3 : Int32) (q4 : Int32) (σ : MM), K q3 q4 σ = some (rf, σf) → xV B G 0 0 σ 124 [(3, .int q3), (4, .int q4)] []) : ∀ (f : Nat) (z3 : Int32) (z4 : Int32) (z5 : Int32) (σ : MM), l_X6_isRow_14 K F a0 x1 x2 f z3 z4 z5 σ = some (rf, σf) → xV B G 0 0 σ 14 [(0, rv B a0), (1, .int x1), (2, .int x2), (3, .int z3), (4, .int z4), (5, .int z5)] [] := by
  intro f
  induction f with
  | zero =>
    intro z3 z4 z5 σ h
    have h : none = some (rf, σf) := h
    cases h
  | succ f ih =>
    intro z3 z4 z5 σ h
    rw [l_X6_isRow_14.eq_2] at h
    refine r_iload (pc := 14) (i := 5) C dX6_isRow_14 rfl ?_
    refine r_bipush (pc := 16) (v := 10) C dX6_isRow_16 (by decide) ?_
    refine r_icmpge (pc := 18) (tgt := 124) C dX6_isRow_18 (by decide) h (fun h => ?_) (fun h => ?_)
    · refine r_pick (lv' := [(3, .int z3), (4, .int z4)]) [3, 4] rfl ?_
      exact hK _ _ _ h
    · refine r_iconst (pc := 21) (v := 0) C dX6_isRow_21 (by decide) ?_
      refine r_istore (pc := 22) (i := 6) C dX6_isRow_22 (by decide) ?_
      refine r_iconst (pc := 24) (v := 0) C dX6_isRow_24 (by decide) ?_
      refine r_istore (pc := 25) (i := 7) C dX6_isRow_25 (by decide) ?_
      refine r_iconst (pc := 27) (v := 0) C dX6_isRow_27 (by decide) ?_
      refine r_istore (pc := 28) (i := 8) C dX6_isRow_28 (by decide) ?_
      refine r_pick (lv' := [(0, rv B a0), (1, .int x1), (2, .int x2), (3, .int z3), (4, .int z4), (5, .int z5), (6, .int 0), (7, .int 0), (8, .int 0)]) [0, 1, 2, 3, 4, 5, 6, 7, 8] rfl ?_
      refine wl_X6_isRow_30 hd C E (fun r6_8 r7_9 σ7 h => ?_) _ _ _ _ _ h
      refine r_iload (pc := 69) (i := 6) C dX6_isRow_69 rfl ?_
      refine r_jn (fun k9 => ∀  (σ10 : MM), k9 σ10 = some (rf, σf) → xV B G 0 0 σ10 83 [(0, rv B a0), (1, .int x1), (2, .int x2), (3, .int z3), (4, .int z4), (5, .int z5), (6, .int r6_8), (7, .int r7_9)] []) h (fun  σ10 h => ?_) (fun k11 hk11 h => ?_)
      · refine r_iload (pc := 83) (i := 6) C dX6_isRow_83 rfl ?_
        refine r_iload (pc := 85) (i := 7) C dX6_isRow_85 rfl ?_
        refine r_iconst (pc := 87) (v := 1) C dX6_isRow_87 (by decide) ?_
        refine r_iadd (pc := 88) C dX6_isRow_88 ?_
        refine r_icmple (pc := 89) (tgt := 94) C dX6_isRow_89 (by decide) h (fun h => ?_) (fun h => ?_)
        · refine r_iload (pc := 94) (i := 6) C dX6_isRow_94 rfl ?_
          refine r_iload (pc := 96) (i := 7) C dX6_isRow_96 rfl ?_
          refine r_jn (fun k9 => ∀ (y3_13 : Int32) (σ12 : MM), k9 y3_13 σ12 = some (rf, σf) → xV B G 0 0 σ12 105 [(0, rv B a0), (1, .int x1), (2, .int x2), (3, .int y3_13), (4, .int z4), (5, .int z5), (6, .int r6_8), (7, .int r7_9)] []) h (fun y3_13 σ12 h => ?_) (fun k14 hk14 h => ?_)
          · refine r_iload (pc := 105) (i := 5) C dX6_isRow_105 rfl ?_
            refine r_iload_n (pc := 107) (i := 1) C dX6_isRow_107 rfl rfl ?_
            refine r_icmpne (pc := 108) (tgt := 118) C dX6_isRow_108 (by decide) h (fun h => ?_) (fun h => ?_)
            · refine r_iinc (pc := 118) (i := 5) (v := (z5 + 1)) C dX6_isRow_118 rfl rfl (by decide) ?_
              refine r_goto (pc := 121) (tgt := 14) C dX6_isRow_121 (by decide) ?_
              refine r_pick (lv' := [(0, rv B a0), (1, .int x1), (2, .int x2), (3, .int y3_13), (4, .int z4), (5, .int (z5 + 1))]) [0, 1, 2, 3, 4, 5] rfl ?_
              exact ih _ _ _ _ h
            · refine r_iload (pc := 111) (i := 6) C dX6_isRow_111 rfl ?_
              refine r_iload (pc := 113) (i := 7) C dX6_isRow_113 rfl ?_
              refine r_isub (pc := 115) C dX6_isRow_115 ?_
              refine r_istore (pc := 116) (i := 4) C dX6_isRow_116 (by decide) ?_
              refine r_iinc (pc := 118) (i := 5) (v := (z5 + 1)) C dX6_isRow_118 rfl rfl (by decide) ?_
              refine r_goto (pc := 121) (tgt := 14) C dX6_isRow_121 (by decide) ?_
              refine r_pick (lv' := [(0, rv B a0), (1, .int x1), (2, .int x2), (3, .int y3_13), (4, .int (r6_8 - r7_9)), (5, .int (z5 + 1))]) [0, 1, 2, 3, 4, 5] rfl ?_
              exact ih _ _ _ _ h
          · refine r_icmple (pc := 98) (tgt := 105) C dX6_isRow_98 (by decide) h (fun h => ?_) (fun h => ?_)
            · refine r_pick (lv' := [(0, rv B a0), (1, .int x1), (2, .int x2), (3, .int z3), (4, .int z4), (5, .int z5), (6, .int r6_8), (7, .int r7_9)]) [0, 1, 2, 3, 4, 5, 6, 7] rfl ?_
              exact hk14 _ _ h
            · refine r_iload_n (pc := 101) (i := 3) C dX6_isRow_101 rfl rfl ?_
              refine r_iconst (pc := 102) (v := 1) C dX6_isRow_102 (by decide) ?_
              refine r_iadd (pc := 103) C dX6_isRow_103 ?_
              refine r_istore_n (pc := 104) (i := 3) C dX6_isRow_104 rfl (by decide) ?_
              refine r_pick (lv' := [(0, rv B a0), (1, .int x1), (2, .int x2), (3, .int (z3 + 1)), (4, .int z4), (5, .int z5), (6, .int r6_8), (7, .int r7_9)]) [0, 1, 2, 3, 4, 5, 6, 7] rfl ?_
              exact hk14 _ _ h
        · refine r_iconst (pc := 92) (v := 0) C dX6_isRow_92 (by decide) ?_
          exact r_zretL (pc := 93) C rfl dX6_isRow_93 (Or.inl rfl) h E
      · refine r_ifle (pc := 71) (tgt := 83) C dX6_isRow_71 (by decide) h (fun h => ?_) (fun h => ?_)
        · refine r_pick (lv' := [(0, rv B a0), (1, .int x1), (2, .int x2), (3, .int z3), (4, .int z4), (5, .int z5), (6, .int r6_8), (7, .int r7_9)]) [0, 1, 2, 3, 4, 5, 6, 7] rfl ?_
          exact hk11 _ h
        · refine r_iload_n (pc := 74) (i := 2) C dX6_isRow_74 rfl rfl ?_
          refine r_iload (pc := 75) (i := 5) C dX6_isRow_75 rfl ?_
          refine r_callSI (pc := 77) (As := [.int x2, .int z5]) (st := []) C cs_X6_131_X6_has h (fun _ _ e => w_X6_has (Nat.le_refl 0) e) (Nat.le_trans (Nat.le_of_ble_eq_true rfl) hd) (Nat.le_of_ble_eq_true rfl) dX6_isRow_77 (fun v16 σ15 h => ?_)
          refine r_ifeq (pc := 80) (tgt := 92) C dX6_isRow_80 (by decide) h (fun h => ?_) (fun h => ?_)
          · refine r_iconst (pc := 92) (v := 0) C dX6_isRow_92 (by decide) ?_
            exact r_zretL (pc := 93) C rfl dX6_isRow_93 (Or.inl rfl) h E
          · refine r_pick (lv' := [(0, rv B a0), (1, .int x1), (2, .int x2), (3, .int z3), (4, .int z4), (5, .int z5), (6, .int r6_8), (7, .int r7_9)]) [0, 1, 2, 3, 4, 5, 6, 7] rfl ?_
            exact hk11 _ h
theorem w_X6_isRow {B F : Nat} {d : Nat} {σ : MM} {a0 : Nat} {x1 : Int32} {rf : Int32} {σf : MM} (hd : 2 ≤ d) (h : g_X6_isRow F σ a0 x1 = some (rf, σf)) : xMA B yX6_isRow cX6_isRow 9 (some .boolean) d 0 0 [rv B a0, .int x1] σ (some (.int rf)) σf := by
  refine xMA.of (by decide +kernel) (Nat.le_of_ble_eq_true rfl) (cat_rv (cat_int cat_nil)) (fun G C E => ?_)
  unfold g_X6_isRow at h
  obtain ⟨-, h⟩ := r_ck h
  refine r_aload_n (pc := 0) (i := 0) C dX6_isRow_0 rfl rfl ?_
  refine r_iload_n (pc := 1) (i := 1) C dX6_isRow_1 rfl rfl ?_
  refine r_callVI (pc := 2) (As := [.int x1]) (st := []) C cs_X6_388_X6_reachLeft h (fun _ _ e => w_X6_reachLeft (Nat.le_refl 1) e) (fun _ _ e => t_X6_reachLeft e) (Nat.le_trans (Nat.le_of_ble_eq_true rfl) hd) (Nat.le_of_ble_eq_true rfl) dX6_isRow_2 (fun v2 σ1 h => ?_)
  refine r_istore_n (pc := 5) (i := 2) C dX6_isRow_5 rfl (by decide) ?_
  refine r_iconst (pc := 6) (v := 0) C dX6_isRow_6 (by decide) ?_
  refine r_istore_n (pc := 7) (i := 3) C dX6_isRow_7 rfl (by decide) ?_
  refine r_iconst (pc := 8) (v := 0) C dX6_isRow_8 (by decide) ?_
  refine r_istore (pc := 9) (i := 4) C dX6_isRow_9 (by decide) ?_
  refine r_iconst (pc := 11) (v := 0) C dX6_isRow_11 (by decide) ?_
  refine r_istore (pc := 12) (i := 5) C dX6_isRow_12 (by decide) ?_
  refine r_pick (lv' := [(0, rv B a0), (1, .int x1), (2, .int v2), (3, .int 0), (4, .int 0), (5, .int 0)]) [0, 1, 2, 3, 4, 5] rfl ?_
  refine wl_X6_isRow_14 hd C E (fun r3_18 r4_19 σ17 h => ?_) _ _ _ _ _ h
  refine r_iload_n (pc := 124) (i := 3) C dX6_isRow_124 rfl rfl ?_
  refine r_jn (fun k9 => ∀  (σ20 : MM), k9 σ20 = some (rf, σf) → xV B G 0 0 σ20 133 [(3, .int r3_18), (4, .int r4_19)] []) h (fun  σ20 h => ?_) (fun k21 hk21 h => ?_)
  · refine r_iload_n (pc := 133) (i := 3) C dX6_isRow_133 rfl rfl ?_
    refine r_iconst (pc := 134) (v := 1) C dX6_isRow_134 (by decide) ?_
    refine r_icmpne (pc := 135) (tgt := 148) C dX6_isRow_135 (by decide) h (fun h => ?_) (fun h => ?_)
    · refine r_iconst (pc := 148) (v := 0) C dX6_isRow_148 (by decide) ?_
      exact r_zretL (pc := 149) C rfl dX6_isRow_149 (Or.inl rfl) h E
    · refine r_iload (pc := 138) (i := 4) C dX6_isRow_138 rfl ?_
      refine r_iconst (pc := 140) (v := 1) C dX6_isRow_140 (by decide) ?_
      refine r_icmpne (pc := 141) (tgt := 148) C dX6_isRow_141 (by decide) h (fun h => ?_) (fun h => ?_)
      · refine r_iconst (pc := 148) (v := 0) C dX6_isRow_148 (by decide) ?_
        exact r_zretL (pc := 149) C rfl dX6_isRow_149 (Or.inl rfl) h E
      · refine r_iconst (pc := 144) (v := 1) C dX6_isRow_144 (by decide) ?_
        refine r_goto (pc := 145) (tgt := 149) C dX6_isRow_145 (by decide) ?_
        exact r_zretL (pc := 149) C rfl dX6_isRow_149 (Or.inr rfl) h E
  · refine r_ifne (pc := 125) (tgt := 133) C dX6_isRow_125 (by decide) h (fun h => ?_) (fun h => ?_)
    · refine r_pick (lv' := [(3, .int r3_18), (4, .int r4_19)]) [3, 4] rfl ?_
      exact hk21 _ h
    · refine r_iload (pc := 128) (i := 4) C dX6_isRow_128 rfl ?_
      refine r_ifeq (pc := 130) (tgt := 144) C dX6_isRow_130 (by decide) h (fun h => ?_) (fun h => ?_)
      · refine r_iconst (pc := 144) (v := 1) C dX6_isRow_144 (by decide) ?_
        refine r_goto (pc := 145) (tgt := 149) C dX6_isRow_145 (by decide) ?_
        exact r_zretL (pc := 149) C rfl dX6_isRow_149 (Or.inr rfl) h E
      · refine r_pick (lv' := [(3, .int r3_18), (4, .int r4_19)]) [3, 4] rfl ?_
        exact hk21 _ h
theorem t_X6_isRow {F : Nat} {σ : MM} {a0 : Nat} {x1 : Int32} {r : Int32 × MM} (h : g_X6_isRow F σ a0 x1 = some r) : mT σ a0 = (5, 62) := by
  unfold g_X6_isRow at h
  exact (r_ck h).1
theorem yd_X6_isRow : xYd yX6_isRow 1 := ⟨by decide +kernel, by decide +kernel, by decide +kernel⟩
theorem cs_X6_391_X6_isRow : xCV RX6 391 yX6_isRow cX6_isRow 9 (some .boolean) 5 62 1 := ⟨by decide, by decide, _, rfl, yd_X6_isRow, Or.inl ⟨rfl, lw_V q1745 q1747 qs97 q122 q1748⟩⟩
def g_X6_canGo (F : Nat) (σ : MM) (a0 : Nat) (x1 : Int32) (x2 : Int32) : Option (Int32 × MM) := if mT σ a0 = (5, 62) then (bq (g_X6_leftOf F σ a0 x1 x2) fun v2 σ1 => if v2 = 0 then (some (0, σ1)) else ((gP σ1 a0 5 62 46).bind fun p3 => bq (g_X6_leftOf F σ1 a0 x1 x2) fun v5 σ4 => (sI σ4 p3 (((10 * x1) + x2)) ((v5 - 1))).bind fun σ6 => bq (g_X6_isRow F σ6 a0 x2) fun v8 σ7 => (gP σ7 a0 5 62 46).bind fun p9 => bq (g_X6_leftOf F σ7 a0 x1 x2) fun v11 σ10 => (sI σ10 p9 (((10 * x1) + x2)) ((v11 + 1))).bind fun σ12 => (rz v8).bind fun u => some (u, σ12))) else none
theorem w_X6_canGo {B F : Nat} {d : Nat} {σ : MM} {a0 : Nat} {x1 : Int32} {x2 : Int32} {rf : Int32} {σf : MM} (hd : 3 ≤ d) (h : g_X6_canGo F σ a0 x1 x2 = some (rf, σf)) : xMA B yX6_canGo cX6_canGo 4 (some .boolean) d 0 0 [rv B a0, .int x1, .int x2] σ (some (.int rf)) σf := by
  refine xMA.of (by decide +kernel) (Nat.le_of_ble_eq_true rfl) (cat_rv (cat_int (cat_int cat_nil))) (fun G C E => ?_)
  unfold g_X6_canGo at h
  obtain ⟨-, h⟩ := r_ck h
  refine r_aload_n (pc := 0) (i := 0) C dX6_canGo_0 rfl rfl ?_
  refine r_iload_n (pc := 1) (i := 1) C dX6_canGo_1 rfl rfl ?_
  refine r_iload_n (pc := 2) (i := 2) C dX6_canGo_2 rfl rfl ?_
  refine r_callVI (pc := 3) (As := [.int x1, .int x2]) (st := []) C cs_X6_385_X6_leftOf h (fun _ _ e => w_X6_leftOf (Nat.le_refl 0) e) (fun _ _ e => t_X6_leftOf e) (Nat.le_trans (Nat.le_of_ble_eq_true rfl) hd) (Nat.le_of_ble_eq_true rfl) dX6_canGo_3 (fun v2 σ1 h => ?_)
  refine r_ifne (pc := 6) (tgt := 11) C dX6_canGo_6 (by decide) h (fun h => ?_) (fun h => ?_)
  · refine r_aload_n (pc := 11) (i := 0) C dX6_canGo_11 rfl rfl ?_
    refine r_getP (pc := 12) C fd_X6_83 rfl dX6_canGo_12 h (fun p3 h => ?_)
    refine r_bipush (pc := 15) (v := 10) C dX6_canGo_15 (by decide) ?_
    refine r_iload_n (pc := 17) (i := 1) C dX6_canGo_17 rfl rfl ?_
    refine r_imul (pc := 18) C dX6_canGo_18 ?_
    refine r_iload_n (pc := 19) (i := 2) C dX6_canGo_19 rfl rfl ?_
    refine r_iadd (pc := 20) C dX6_canGo_20 ?_
    refine r_aload_n (pc := 21) (i := 0) C dX6_canGo_21 rfl rfl ?_
    refine r_iload_n (pc := 22) (i := 1) C dX6_canGo_22 rfl rfl ?_
    refine r_iload_n (pc := 23) (i := 2) C dX6_canGo_23 rfl rfl ?_
    refine r_callVI (pc := 24) (As := [.int x1, .int x2]) (st := [.int ((10 * x1) + x2), rv B p3]) C cs_X6_385_X6_leftOf h (fun _ _ e => w_X6_leftOf (Nat.le_refl 0) e) (fun _ _ e => t_X6_leftOf e) (Nat.le_trans (Nat.le_of_ble_eq_true rfl) hd) (Nat.le_of_ble_eq_true rfl) dX6_canGo_24 (fun v5 σ4 h => ?_)
    refine r_iconst (pc := 27) (v := 1) C dX6_canGo_27 (by decide) ?_
    refine r_isub (pc := 28) C dX6_canGo_28 ?_
    refine r_iast (pc := 29) C dX6_canGo_29 h (fun σ6 h => ?_)
    refine r_aload_n (pc := 30) (i := 0) C dX6_canGo_30 rfl rfl ?_
    refine r_iload_n (pc := 31) (i := 2) C dX6_canGo_31 rfl rfl ?_
    refine r_callVI (pc := 32) (As := [.int x2]) (st := []) C cs_X6_391_X6_isRow h (fun _ _ e => w_X6_isRow (Nat.le_refl 2) e) (fun _ _ e => t_X6_isRow e) (Nat.le_trans (Nat.le_of_ble_eq_true rfl) hd) (Nat.le_of_ble_eq_true rfl) dX6_canGo_32 (fun v8 σ7 h => ?_)
    refine r_istore_n (pc := 35) (i := 3) C dX6_canGo_35 rfl (by decide) ?_
    refine r_aload_n (pc := 36) (i := 0) C dX6_canGo_36 rfl rfl ?_
    refine r_getP (pc := 37) C fd_X6_83 rfl dX6_canGo_37 h (fun p9 h => ?_)
    refine r_bipush (pc := 40) (v := 10) C dX6_canGo_40 (by decide) ?_
    refine r_iload_n (pc := 42) (i := 1) C dX6_canGo_42 rfl rfl ?_
    refine r_imul (pc := 43) C dX6_canGo_43 ?_
    refine r_iload_n (pc := 44) (i := 2) C dX6_canGo_44 rfl rfl ?_
    refine r_iadd (pc := 45) C dX6_canGo_45 ?_
    refine r_aload_n (pc := 46) (i := 0) C dX6_canGo_46 rfl rfl ?_
    refine r_iload_n (pc := 47) (i := 1) C dX6_canGo_47 rfl rfl ?_
    refine r_iload_n (pc := 48) (i := 2) C dX6_canGo_48 rfl rfl ?_
    refine r_callVI (pc := 49) (As := [.int x1, .int x2]) (st := [.int ((10 * x1) + x2), rv B p9]) C cs_X6_385_X6_leftOf h (fun _ _ e => w_X6_leftOf (Nat.le_refl 0) e) (fun _ _ e => t_X6_leftOf e) (Nat.le_trans (Nat.le_of_ble_eq_true rfl) hd) (Nat.le_of_ble_eq_true rfl) dX6_canGo_49 (fun v11 σ10 h => ?_)
    refine r_iconst (pc := 52) (v := 1) C dX6_canGo_52 (by decide) ?_
    refine r_iadd (pc := 53) C dX6_canGo_53 ?_
    refine r_iast (pc := 54) C dX6_canGo_54 h (fun σ12 h => ?_)
    refine r_iload_n (pc := 55) (i := 3) C dX6_canGo_55 rfl rfl ?_
    exact r_zret (pc := 56) C rfl dX6_canGo_56 h E
  · refine r_iconst (pc := 9) (v := 0) C dX6_canGo_9 (by decide) ?_
    exact r_zretL (pc := 10) C rfl dX6_canGo_10 (Or.inl rfl) h E
theorem t_X6_canGo {F : Nat} {σ : MM} {a0 : Nat} {x1 : Int32} {x2 : Int32} {r : Int32 × MM} (h : g_X6_canGo F σ a0 x1 x2 = some r) : mT σ a0 = (5, 62) := by
  unfold g_X6_canGo at h
  exact (r_ck h).1
theorem yd_X6_canGo : xYd yX6_canGo 2 := ⟨by decide +kernel, by decide +kernel, by decide +kernel⟩
theorem cs_X6_394_X6_canGo : xCV RX6 394 yX6_canGo cX6_canGo 4 (some .boolean) 5 62 2 := ⟨by decide, by decide, _, rfl, yd_X6_canGo, Or.inl ⟨rfl, lw_V q1757 q1759 qs100 q122 q1760⟩⟩
theorem fd_X6_86 : xFg RX6 86 5 62 47 := ⟨_, rfl, rfl, by decide, by decide, in_X6, Or.inl q1312⟩
theorem ft_X6_47 : xFt 5 47 (.array .int) true := ⟨_, rfl, by decide +kernel, rfl, rfl⟩
def l_X6_laysTour_2 (K : MM → Option (Int32 × MM)) (F : Nat) (a0 : Nat) (x1 : Int32) (x2 : Int32) : Nat → Int32 → MM → Option (Int32 × MM)
  | 0, _, _ => none
  | f + 1, z3, σ => if z3 < 100 then ((gP σ a0 5 62 46).bind fun p1 => (gP σ a0 5 62 0).bind fun p2 => (aI σ p2 20 ((0 + z3))).bind fun v3 => (sI σ p1 z3 v3).bind fun σ4 => l_X6_laysTour_2 K F a0 x1 x2 f ((z3 + 1)) σ4) else (K σ)
def l_X6_laysTour_52 (K : Int32 → MM → Option (Int32 × MM)) (F : Nat) (a0 : Nat) (x2 : Int32) (x3 : Int32) (x4 : Int32) : Nat → Int32 → MM → Option (Int32 × MM)
  | 0, _, _ => none
  | f + 1, z5, σ => bq (g_X6_canGo F σ a0 x3 z5) fun v9 σ8 => if v9 = 0 then (l_X6_laysTour_52 K F a0 x2 x3 x4 f ((z5 + 1)) σ8) else (K z5 σ8)
def l_X6_laysTour_43 (K : MM → Option (Int32 × MM)) (F : Nat) (a0 : Nat) (x2 : Int32) : Nat → Int32 → Int32 → MM → Option (Int32 × MM)
  | 0, _, _, _ => none
  | f + 1, z3, z4, σ => if z4 < x2 then (l_X6_laysTour_52 (fun (r5_11 : Int32) (σ10 : MM) => (gP σ10 a0 5 62 46).bind fun p12 => bq (g_X6_leftOf F σ10 a0 z3 r5_11) fun v14 σ13 => (sI σ13 p12 (((10 * z3) + r5_11)) ((v14 - 1))).bind fun σ15 => (gP σ15 a0 5 62 47).bind fun p16 => (sI σ15 p16 z4 r5_11).bind fun σ17 => l_X6_laysTour_43 K F a0 x2 f r5_11 ((z4 + 1)) σ17) F a0 x2 z3 z4 F 0 σ) else (K σ)
def g_X6_laysTour (F : Nat) (σ : MM) (a0 : Nat) (x1 : Int32) (x2 : Int32) : Option (Int32 × MM) := if mT σ a0 = (5, 62) then (l_X6_laysTour_2 (fun (σ5 : MM) => bq (g_X6_isRow F σ5 a0 x1) fun v7 σ6 => if v7 = 0 then (some (0, σ6)) else (l_X6_laysTour_43 (fun (σ18 : MM) => some (1, σ18)) F a0 x2 F x1 0 σ6)) F a0 x1 x2 F 0 σ) else none
theorem wl_X6_laysTour_2 {B : Nat} {G : XG} {d : Nat} {rf : Int32} {σf : MM} (hd : 4 ≤ d) (C : xC B G yX6_laysTour cX6_laysTour 6 (some .boolean) d 0 0) (E : xEnd B G (some (.int rf)) σf 0 0) {K : MM → Option (Int32 × MM)} {F : Nat} {a0 : Nat} {x1 : Int32} {x2 : Int32} (hK : ∀ (σ : MM), K σ = some (rf, σf) → xV B G 0 0 σ 28 [(0, rv B a0), (1, .int x1), (2, .int x2)] []) : ∀ (f : Nat) (z3 : Int32) (σ : MM), l_X6_laysTour_2 K F a0 x1 x2 f z3 σ = some (rf, σf) → xV B G 0 0 σ 2 [(0, rv B a0), (1, .int x1), (2, .int x2), (3, .int z3)] [] := by
  intro f
  induction f with
  | zero =>
    intro z3 σ h
    have h : none = some (rf, σf) := h
    cases h
  | succ f ih =>
    intro z3 σ h
    rw [l_X6_laysTour_2.eq_2] at h
    refine r_iload_n (pc := 2) (i := 3) C dX6_laysTour_2 rfl rfl ?_
    refine r_bipush (pc := 3) (v := 100) C dX6_laysTour_3 (by decide) ?_
    refine r_icmpge (pc := 5) (tgt := 28) C dX6_laysTour_5 (by decide) h (fun h => ?_) (fun h => ?_)
    · refine r_pick (lv' := [(0, rv B a0), (1, .int x1), (2, .int x2)]) [0, 1, 2] rfl ?_
      exact hK _ h
    · refine r_aload_n (pc := 8) (i := 0) C dX6_laysTour_8 rfl rfl ?_
      refine r_getP (pc := 9) C fd_X6_83 rfl dX6_laysTour_9 h (fun p1 h => ?_)
      refine r_iload_n (pc := 12) (i := 3) C dX6_laysTour_12 rfl rfl ?_
      refine r_aload_n (pc := 13) (i := 0) C dX6_laysTour_13 rfl rfl ?_
      refine r_getP (pc := 14) C fd_X6_7 rfl dX6_laysTour_14 h (fun p2 h => ?_)
      refine r_iconst (pc := 17) (v := 0) C dX6_laysTour_17 (by decide) ?_
      refine r_iload_n (pc := 18) (i := 3) C dX6_laysTour_18 rfl rfl ?_
      refine r_iadd (pc := 19) C dX6_laysTour_19 ?_
      refine r_iald (pc := 20) C dX6_laysTour_20 h (fun v3 h => ?_)
      refine r_iast (pc := 21) C dX6_laysTour_21 h (fun σ4 h => ?_)
      refine r_iinc (pc := 22) (i := 3) (v := (z3 + 1)) C dX6_laysTour_22 rfl rfl (by decide) ?_
      refine r_goto (pc := 25) (tgt := 2) C dX6_laysTour_25 (by decide) ?_
      refine r_pick (lv' := [(0, rv B a0), (1, .int x1), (2, .int x2), (3, .int (z3 + 1))]) [0, 1, 2, 3] rfl ?_
      exact ih _ _ h
theorem wl_X6_laysTour_52 {B : Nat} {G : XG} {d : Nat} {rf : Int32} {σf : MM} (hd : 4 ≤ d) (C : xC B G yX6_laysTour cX6_laysTour 6 (some .boolean) d 0 0) (E : xEnd B G (some (.int rf)) σf 0 0) {K : Int32 → MM → Option (Int32 × MM)} {F : Nat} {a0 : Nat} {x2 : Int32} {x3 : Int32} {x4 : Int32} (hK : ∀ (q5 : Int32) (σ : MM), K q5 σ = some (rf, σf) → xV B G 0 0 σ 71 [(0, rv B a0), (2, .int x2), (3, .int x3), (4, .int x4), (5, .int q5)] []) : ∀ (f : Nat) (z5 : Int32) (σ : MM), l_X6_laysTour_52 K F a0 x2 x3 x4 f z5 σ = some (rf, σf) → xV B G 0 0 σ 52 [(0, rv B a0), (2, .int x2), (3, .int x3), (4, .int x4), (5, .int z5)] [] := by
  intro f
  induction f with
  | zero =>
    intro z5 σ h
    have h : none = some (rf, σf) := h
    cases h
  | succ f ih =>
    intro z5 σ h
    rw [l_X6_laysTour_52.eq_2] at h
    refine r_aload_n (pc := 52) (i := 0) C dX6_laysTour_52 rfl rfl ?_
    refine r_iload_n (pc := 53) (i := 3) C dX6_laysTour_53 rfl rfl ?_
    refine r_iload (pc := 54) (i := 5) C dX6_laysTour_54 rfl ?_
    refine r_callVI (pc := 56) (As := [.int x3, .int z5]) (st := []) C cs_X6_394_X6_canGo h (fun _ _ e => w_X6_canGo (Nat.le_refl 3) e) (fun _ _ e => t_X6_canGo e) (Nat.le_trans (Nat.le_of_ble_eq_true rfl) hd) (Nat.le_of_ble_eq_true rfl) dX6_laysTour_56 (fun v9 σ8 h => ?_)
    refine r_ifne (pc := 59) (tgt := 71) C dX6_laysTour_59 (by decide) h (fun h => ?_) (fun h => ?_)
    · refine r_pick (lv' := [(0, rv B a0), (2, .int x2), (3, .int x3), (4, .int x4), (5, .int z5)]) [0, 2, 3, 4, 5] rfl ?_
      exact hK _ _ h
    · refine r_iload (pc := 62) (i := 5) C dX6_laysTour_62 rfl ?_
      refine r_iconst (pc := 64) (v := 1) C dX6_laysTour_64 (by decide) ?_
      refine r_iadd (pc := 65) C dX6_laysTour_65 ?_
      refine r_istore (pc := 66) (i := 5) C dX6_laysTour_66 (by decide) ?_
      refine r_goto (pc := 68) (tgt := 52) C dX6_laysTour_68 (by decide) ?_
      refine r_pick (lv' := [(0, rv B a0), (2, .int x2), (3, .int x3), (4, .int x4), (5, .int (z5 + 1))]) [0, 2, 3, 4, 5] rfl ?_
      exact ih _ _ h
theorem wl_X6_laysTour_43 {B : Nat} {G : XG} {d : Nat} {rf : Int32} {σf : MM} (hd : 4 ≤ d) (C : xC B G yX6_laysTour cX6_laysTour 6 (some .boolean) d 0 0) (E : xEnd B G (some (.int rf)) σf 0 0) {K : MM → Option (Int32 × MM)} {F : Nat} {a0 : Nat} {x2 : Int32} (hK : ∀ (σ : MM), K σ = some (rf, σf) → xV B G 0 0 σ 110 [] []) : ∀ (f : Nat) (z3 : Int32) (z4 : Int32) (σ : MM), l_X6_laysTour_43 K F a0 x2 f z3 z4 σ = some (rf, σf) → xV B G 0 0 σ 43 [(0, rv B a0), (2, .int x2), (3, .int z3), (4, .int z4)] [] := by
  intro f
  induction f with
  | zero =>
    intro z3 z4 σ h
    have h : none = some (rf, σf) := h
    cases h
  | succ f ih =>
    intro z3 z4 σ h
    rw [l_X6_laysTour_43.eq_2] at h
    refine r_iload (pc := 43) (i := 4) C dX6_laysTour_43 rfl ?_
    refine r_iload_n (pc := 45) (i := 2) C dX6_laysTour_45 rfl rfl ?_
    refine r_icmpge (pc := 46) (tgt := 110) C dX6_laysTour_46 (by decide) h (fun h => ?_) (fun h => ?_)
    · refine r_pick (lv' := []) [] rfl ?_
      exact hK _ h
    · refine r_iconst (pc := 49) (v := 0) C dX6_laysTour_49 (by decide) ?_
      refine r_istore (pc := 50) (i := 5) C dX6_laysTour_50 (by decide) ?_
      refine r_pick (lv' := [(0, rv B a0), (2, .int x2), (3, .int z3), (4, .int z4), (5, .int 0)]) [0, 2, 3, 4, 5] rfl ?_
      refine wl_X6_laysTour_52 hd C E (fun r5_11 σ10 h => ?_) _ _ _ h
      refine r_aload_n (pc := 71) (i := 0) C dX6_laysTour_71 rfl rfl ?_
      refine r_getP (pc := 72) C fd_X6_83 rfl dX6_laysTour_72 h (fun p12 h => ?_)
      refine r_bipush (pc := 75) (v := 10) C dX6_laysTour_75 (by decide) ?_
      refine r_iload_n (pc := 77) (i := 3) C dX6_laysTour_77 rfl rfl ?_
      refine r_imul (pc := 78) C dX6_laysTour_78 ?_
      refine r_iload (pc := 79) (i := 5) C dX6_laysTour_79 rfl ?_
      refine r_iadd (pc := 81) C dX6_laysTour_81 ?_
      refine r_aload_n (pc := 82) (i := 0) C dX6_laysTour_82 rfl rfl ?_
      refine r_iload_n (pc := 83) (i := 3) C dX6_laysTour_83 rfl rfl ?_
      refine r_iload (pc := 84) (i := 5) C dX6_laysTour_84 rfl ?_
      refine r_callVI (pc := 86) (As := [.int z3, .int r5_11]) (st := [.int ((10 * z3) + r5_11), rv B p12]) C cs_X6_385_X6_leftOf h (fun _ _ e => w_X6_leftOf (Nat.le_refl 0) e) (fun _ _ e => t_X6_leftOf e) (Nat.le_trans (Nat.le_of_ble_eq_true rfl) hd) (Nat.le_of_ble_eq_true rfl) dX6_laysTour_86 (fun v14 σ13 h => ?_)
      refine r_iconst (pc := 89) (v := 1) C dX6_laysTour_89 (by decide) ?_
      refine r_isub (pc := 90) C dX6_laysTour_90 ?_
      refine r_iast (pc := 91) C dX6_laysTour_91 h (fun σ15 h => ?_)
      refine r_aload_n (pc := 92) (i := 0) C dX6_laysTour_92 rfl rfl ?_
      refine r_getP (pc := 93) C fd_X6_86 rfl dX6_laysTour_93 h (fun p16 h => ?_)
      refine r_iload (pc := 96) (i := 4) C dX6_laysTour_96 rfl ?_
      refine r_iload (pc := 98) (i := 5) C dX6_laysTour_98 rfl ?_
      refine r_iast (pc := 100) C dX6_laysTour_100 h (fun σ17 h => ?_)
      refine r_iload (pc := 101) (i := 5) C dX6_laysTour_101 rfl ?_
      refine r_istore_n (pc := 103) (i := 3) C dX6_laysTour_103 rfl (by decide) ?_
      refine r_iinc (pc := 104) (i := 4) (v := (z4 + 1)) C dX6_laysTour_104 rfl rfl (by decide) ?_
      refine r_goto (pc := 107) (tgt := 43) C dX6_laysTour_107 (by decide) ?_
      refine r_pick (lv' := [(0, rv B a0), (2, .int x2), (3, .int r5_11), (4, .int (z4 + 1))]) [0, 2, 3, 4] rfl ?_
      exact ih _ _ _ h
theorem w_X6_laysTour {B F : Nat} {d : Nat} {σ : MM} {a0 : Nat} {x1 : Int32} {x2 : Int32} {rf : Int32} {σf : MM} (hd : 4 ≤ d) (h : g_X6_laysTour F σ a0 x1 x2 = some (rf, σf)) : xMA B yX6_laysTour cX6_laysTour 6 (some .boolean) d 0 0 [rv B a0, .int x1, .int x2] σ (some (.int rf)) σf := by
  refine xMA.of (by decide +kernel) (Nat.le_of_ble_eq_true rfl) (cat_rv (cat_int (cat_int cat_nil))) (fun G C E => ?_)
  unfold g_X6_laysTour at h
  obtain ⟨-, h⟩ := r_ck h
  refine r_iconst (pc := 0) (v := 0) C dX6_laysTour_0 (by decide) ?_
  refine r_istore_n (pc := 1) (i := 3) C dX6_laysTour_1 rfl (by decide) ?_
  refine r_pick (lv' := [(0, rv B a0), (1, .int x1), (2, .int x2), (3, .int 0)]) [0, 1, 2, 3] rfl ?_
  refine wl_X6_laysTour_2 hd C E (fun  σ5 h => ?_) _ _ _ h
  refine r_aload_n (pc := 28) (i := 0) C dX6_laysTour_28 rfl rfl ?_
  refine r_iload_n (pc := 29) (i := 1) C dX6_laysTour_29 rfl rfl ?_
  refine r_callVI (pc := 30) (As := [.int x1]) (st := []) C cs_X6_391_X6_isRow h (fun _ _ e => w_X6_isRow (Nat.le_refl 2) e) (fun _ _ e => t_X6_isRow e) (Nat.le_trans (Nat.le_of_ble_eq_true rfl) hd) (Nat.le_of_ble_eq_true rfl) dX6_laysTour_30 (fun v7 σ6 h => ?_)
  refine r_ifne (pc := 33) (tgt := 38) C dX6_laysTour_33 (by decide) h (fun h => ?_) (fun h => ?_)
  · refine r_iload_n (pc := 38) (i := 1) C dX6_laysTour_38 rfl rfl ?_
    refine r_istore_n (pc := 39) (i := 3) C dX6_laysTour_39 rfl (by decide) ?_
    refine r_iconst (pc := 40) (v := 0) C dX6_laysTour_40 (by decide) ?_
    refine r_istore (pc := 41) (i := 4) C dX6_laysTour_41 (by decide) ?_
    refine r_pick (lv' := [(0, rv B a0), (2, .int x2), (3, .int x1), (4, .int 0)]) [0, 2, 3, 4] rfl ?_
    refine wl_X6_laysTour_43 hd C E (fun  σ18 h => ?_) _ _ _ _ h
    refine r_iconst (pc := 110) (v := 1) C dX6_laysTour_110 (by decide) ?_
    exact r_zretL (pc := 111) C rfl dX6_laysTour_111 (Or.inr rfl) h E
  · refine r_iconst (pc := 36) (v := 0) C dX6_laysTour_36 (by decide) ?_
    exact r_zretL (pc := 37) C rfl dX6_laysTour_37 (Or.inl rfl) h E
theorem t_X6_laysTour {F : Nat} {σ : MM} {a0 : Nat} {x1 : Int32} {x2 : Int32} {r : Int32 × MM} (h : g_X6_laysTour F σ a0 x1 x2 = some r) : mT σ a0 = (5, 62) := by
  unfold g_X6_laysTour at h
  exact (r_ck h).1
theorem yd_X6_laysTour : xYd yX6_laysTour 2 := ⟨by decide +kernel, by decide +kernel, by decide +kernel⟩
theorem cs_X6_397_X6_laysTour : xCV RX6 397 yX6_laysTour cX6_laysTour 6 (some .boolean) 5 62 2 := ⟨by decide, by decide, _, rfl, yd_X6_laysTour, Or.inl ⟨rfl, lw_V q1741 q1743 qs96 q122 q1744⟩⟩
def g_X6_tour (F : Nat) (σ : MM) (a0 : Nat) (x1 : Int32) : Option (Int32 × MM) := if mT σ a0 = (5, 62) then (bq (g_X6_in F σ x1 0 59) fun v2 σ1 => jn (fun (σ3 : MM) => (gP σ3 a0 5 62 0).bind fun p5 => (aI σ3 p5 20 151).bind fun v6 => if v6 < 0 then (some ((-2), σ3)) else (bq (g_X6_owedInAll F σ3 a0) fun v8 σ7 => if 60 < v8 then (some ((-3), σ7)) else (if x1 = 101 then (some (v8, σ7)) else ((gP σ7 a0 5 62 0).bind fun p9 => (aI σ7 p9 20 151).bind fun v10 => bq (g_X6_laysTour F σ7 a0 v10 v8) fun v12 σ11 => if x1 = 100 then (if v12 = 0 then (some (0, σ11)) else (some (1, σ11))) else (if v12 = 0 then (some ((-4), σ11)) else (jn (fun (σ13 : MM) => if x1 < 100 then ((gP σ13 a0 5 62 47).bind fun p19 => (aI σ13 p19 20 x1).bind fun v20 => some (v20, σ13)) else (if v8 = 0 then (some (1, σ13)) else ((gP σ13 a0 5 62 47).bind fun p15 => (aI σ13 p15 20 ((v8 - 1))).bind fun v16 => (gP σ13 a0 5 62 0).bind fun p17 => (aI σ13 p17 20 151).bind fun v18 => if v16 = v18 then (some (1, σ13)) else (some (0, σ13))))) (fun k14 => if x1 < 100 then (if x1 < v8 then (k14 σ11) else (some ((-4), σ11))) else (k14 σ11)))))))) (fun k4 => if v2 = 0 then (bq (g_X6_in F σ1 x1 100 102) fun v22 σ21 => if v22 = 0 then (some ((-1), σ21)) else (k4 σ21)) else (k4 σ1))) else none
theorem w_X6_tour {B F : Nat} {d : Nat} {σ : MM} {a0 : Nat} {x1 : Int32} {rf : Int32} {σf : MM} (hd : 5 ≤ d) (h : g_X6_tour F σ a0 x1 = some (rf, σf)) : xMA B yX6_tour cX6_tour 4 (some .int) d 0 0 [rv B a0, .int x1] σ (some (.int rf)) σf := by
  refine xMA.of (by decide +kernel) (Nat.le_of_ble_eq_true rfl) (cat_rv (cat_int cat_nil)) (fun G C E => ?_)
  unfold g_X6_tour at h
  obtain ⟨-, h⟩ := r_ck h
  refine r_iload_n (pc := 0) (i := 1) C dX6_tour_0 rfl rfl ?_
  refine r_iconst (pc := 1) (v := 0) C dX6_tour_1 (by decide) ?_
  refine r_bipush (pc := 2) (v := 59) C dX6_tour_2 (by decide) ?_
  refine r_callSI (pc := 4) (As := [.int x1, .int 0, .int 59]) (st := []) C cs_X6_123_X6_in h (fun _ _ e => w_X6_in (Nat.le_refl 0) e) (Nat.le_trans (Nat.le_of_ble_eq_true rfl) hd) (Nat.le_of_ble_eq_true rfl) dX6_tour_4 (fun v2 σ1 h => ?_)
  refine r_jn (fun k9 => ∀  (σ3 : MM), k9 σ3 = some (rf, σf) → xV B G 0 0 σ3 23 [(0, rv B a0), (1, .int x1)] []) h (fun  σ3 h => ?_) (fun k4 hk4 h => ?_)
  · refine r_aload_n (pc := 23) (i := 0) C dX6_tour_23 rfl rfl ?_
    refine r_getP (pc := 24) C fd_X6_7 rfl dX6_tour_24 h (fun p5 h => ?_)
    refine r_sipush (pc := 27) (v := 151) C dX6_tour_27 (by decide) ?_
    refine r_iald (pc := 30) C dX6_tour_30 h (fun v6 h => ?_)
    refine r_ifge (pc := 31) (tgt := 37) C dX6_tour_31 (by decide) h (fun h => ?_) (fun h => ?_)
    · refine r_aload_n (pc := 37) (i := 0) C dX6_tour_37 rfl rfl ?_
      refine r_callVI (pc := 38) (As := []) (st := []) C cs_X6_296_X6_owedInAll h (fun _ _ e => w_X6_owedInAll (Nat.le_refl 2) e) (fun _ _ e => t_X6_owedInAll e) (Nat.le_trans (Nat.le_of_ble_eq_true rfl) hd) (Nat.le_of_ble_eq_true rfl) dX6_tour_38 (fun v8 σ7 h => ?_)
      refine r_istore_n (pc := 41) (i := 2) C dX6_tour_41 rfl (by decide) ?_
      refine r_iload_n (pc := 42) (i := 2) C dX6_tour_42 rfl rfl ?_
      refine r_bipush (pc := 43) (v := 60) C dX6_tour_43 (by decide) ?_
      refine r_icmple (pc := 45) (tgt := 51) C dX6_tour_45 (by decide) h (fun h => ?_) (fun h => ?_)
      · refine r_iload_n (pc := 51) (i := 1) C dX6_tour_51 rfl rfl ?_
        refine r_bipush (pc := 52) (v := 101) C dX6_tour_52 (by decide) ?_
        refine r_icmpne (pc := 54) (tgt := 59) C dX6_tour_54 (by decide) h (fun h => ?_) (fun h => ?_)
        · refine r_aload_n (pc := 59) (i := 0) C dX6_tour_59 rfl rfl ?_
          refine r_aload_n (pc := 60) (i := 0) C dX6_tour_60 rfl rfl ?_
          refine r_getP (pc := 61) C fd_X6_7 rfl dX6_tour_61 h (fun p9 h => ?_)
          refine r_sipush (pc := 64) (v := 151) C dX6_tour_64 (by decide) ?_
          refine r_iald (pc := 67) C dX6_tour_67 h (fun v10 h => ?_)
          refine r_iload_n (pc := 68) (i := 2) C dX6_tour_68 rfl rfl ?_
          refine r_callVI (pc := 69) (As := [.int v10, .int v8]) (st := []) C cs_X6_397_X6_laysTour h (fun _ _ e => w_X6_laysTour (Nat.le_refl 4) e) (fun _ _ e => t_X6_laysTour e) (Nat.le_trans (Nat.le_of_ble_eq_true rfl) hd) (Nat.le_of_ble_eq_true rfl) dX6_tour_69 (fun v12 σ11 h => ?_)
          refine r_istore_n (pc := 72) (i := 3) C dX6_tour_72 rfl (by decide) ?_
          refine r_iload_n (pc := 73) (i := 1) C dX6_tour_73 rfl rfl ?_
          refine r_bipush (pc := 74) (v := 100) C dX6_tour_74 (by decide) ?_
          refine r_icmpne (pc := 76) (tgt := 89) C dX6_tour_76 (by decide) h (fun h => ?_) (fun h => ?_)
          · refine r_iload_n (pc := 89) (i := 3) C dX6_tour_89 rfl rfl ?_
            refine r_ifeq (pc := 90) (tgt := 104) C dX6_tour_90 (by decide) h (fun h => ?_) (fun h => ?_)
            · refine r_bipush (pc := 104) (v := (-4)) C dX6_tour_104 (by decide) ?_
              exact r_iret (pc := 106) C rfl dX6_tour_106 h E
            · refine r_iload_n (pc := 93) (i := 1) C dX6_tour_93 rfl rfl ?_
              refine r_bipush (pc := 94) (v := 100) C dX6_tour_94 (by decide) ?_
              refine r_jn (fun k9 => ∀  (σ13 : MM), k9 σ13 = some (rf, σf) → xV B G 0 0 σ13 107 [(0, rv B a0), (1, .int x1), (2, .int v8)] []) h (fun  σ13 h => ?_) (fun k14 hk14 h => ?_)
              · refine r_iload_n (pc := 107) (i := 1) C dX6_tour_107 rfl rfl ?_
                refine r_bipush (pc := 108) (v := 100) C dX6_tour_108 (by decide) ?_
                refine r_icmpge (pc := 110) (tgt := 120) C dX6_tour_110 (by decide) h (fun h => ?_) (fun h => ?_)
                · refine r_iload_n (pc := 120) (i := 2) C dX6_tour_120 rfl rfl ?_
                  refine r_ifeq (pc := 121) (tgt := 143) C dX6_tour_121 (by decide) h (fun h => ?_) (fun h => ?_)
                  · refine r_iconst (pc := 143) (v := 1) C dX6_tour_143 (by decide) ?_
                    refine r_goto (pc := 144) (tgt := 148) C dX6_tour_144 (by decide) ?_
                    exact r_iret (pc := 148) C rfl dX6_tour_148 h E
                  · refine r_aload_n (pc := 124) (i := 0) C dX6_tour_124 rfl rfl ?_
                    refine r_getP (pc := 125) C fd_X6_86 rfl dX6_tour_125 h (fun p15 h => ?_)
                    refine r_iload_n (pc := 128) (i := 2) C dX6_tour_128 rfl rfl ?_
                    refine r_iconst (pc := 129) (v := 1) C dX6_tour_129 (by decide) ?_
                    refine r_isub (pc := 130) C dX6_tour_130 ?_
                    refine r_iald (pc := 131) C dX6_tour_131 h (fun v16 h => ?_)
                    refine r_aload_n (pc := 132) (i := 0) C dX6_tour_132 rfl rfl ?_
                    refine r_getP (pc := 133) C fd_X6_7 rfl dX6_tour_133 h (fun p17 h => ?_)
                    refine r_sipush (pc := 136) (v := 151) C dX6_tour_136 (by decide) ?_
                    refine r_iald (pc := 139) C dX6_tour_139 h (fun v18 h => ?_)
                    refine r_icmpne (pc := 140) (tgt := 147) C dX6_tour_140 (by decide) h (fun h => ?_) (fun h => ?_)
                    · refine r_iconst (pc := 147) (v := 0) C dX6_tour_147 (by decide) ?_
                      exact r_iret (pc := 148) C rfl dX6_tour_148 h E
                    · refine r_iconst (pc := 143) (v := 1) C dX6_tour_143 (by decide) ?_
                      refine r_goto (pc := 144) (tgt := 148) C dX6_tour_144 (by decide) ?_
                      exact r_iret (pc := 148) C rfl dX6_tour_148 h E
                · refine r_aload_n (pc := 113) (i := 0) C dX6_tour_113 rfl rfl ?_
                  refine r_getP (pc := 114) C fd_X6_86 rfl dX6_tour_114 h (fun p19 h => ?_)
                  refine r_iload_n (pc := 117) (i := 1) C dX6_tour_117 rfl rfl ?_
                  refine r_iald (pc := 118) C dX6_tour_118 h (fun v20 h => ?_)
                  exact r_iret (pc := 119) C rfl dX6_tour_119 h E
              · refine r_icmpge (pc := 96) (tgt := 107) C dX6_tour_96 (by decide) h (fun h => ?_) (fun h => ?_)
                · refine r_pick (lv' := [(0, rv B a0), (1, .int x1), (2, .int v8)]) [0, 1, 2] rfl ?_
                  exact hk14 _ h
                · refine r_iload_n (pc := 99) (i := 1) C dX6_tour_99 rfl rfl ?_
                  refine r_iload_n (pc := 100) (i := 2) C dX6_tour_100 rfl rfl ?_
                  refine r_icmplt (pc := 101) (tgt := 107) C dX6_tour_101 (by decide) h (fun h => ?_) (fun h => ?_)
                  · refine r_pick (lv' := [(0, rv B a0), (1, .int x1), (2, .int v8)]) [0, 1, 2] rfl ?_
                    exact hk14 _ h
                  · refine r_bipush (pc := 104) (v := (-4)) C dX6_tour_104 (by decide) ?_
                    exact r_iret (pc := 106) C rfl dX6_tour_106 h E
          · refine r_iload_n (pc := 79) (i := 3) C dX6_tour_79 rfl rfl ?_
            refine r_ifeq (pc := 80) (tgt := 87) C dX6_tour_80 (by decide) h (fun h => ?_) (fun h => ?_)
            · refine r_iconst (pc := 87) (v := 0) C dX6_tour_87 (by decide) ?_
              exact r_iret (pc := 88) C rfl dX6_tour_88 h E
            · refine r_iconst (pc := 83) (v := 1) C dX6_tour_83 (by decide) ?_
              refine r_goto (pc := 84) (tgt := 88) C dX6_tour_84 (by decide) ?_
              exact r_iret (pc := 88) C rfl dX6_tour_88 h E
        · refine r_iload_n (pc := 57) (i := 2) C dX6_tour_57 rfl rfl ?_
          exact r_iret (pc := 58) C rfl dX6_tour_58 h E
      · refine r_bipush (pc := 48) (v := (-3)) C dX6_tour_48 (by decide) ?_
        exact r_iret (pc := 50) C rfl dX6_tour_50 h E
    · refine r_bipush (pc := 34) (v := (-2)) C dX6_tour_34 (by decide) ?_
      exact r_iret (pc := 36) C rfl dX6_tour_36 h E
  · refine r_ifne (pc := 7) (tgt := 23) C dX6_tour_7 (by decide) h (fun h => ?_) (fun h => ?_)
    · refine r_pick (lv' := [(0, rv B a0), (1, .int x1)]) [0, 1] rfl ?_
      exact hk4 _ h
    · refine r_iload_n (pc := 10) (i := 1) C dX6_tour_10 rfl rfl ?_
      refine r_bipush (pc := 11) (v := 100) C dX6_tour_11 (by decide) ?_
      refine r_bipush (pc := 13) (v := 102) C dX6_tour_13 (by decide) ?_
      refine r_callSI (pc := 15) (As := [.int x1, .int 100, .int 102]) (st := []) C cs_X6_123_X6_in h (fun _ _ e => w_X6_in (Nat.le_refl 0) e) (Nat.le_trans (Nat.le_of_ble_eq_true rfl) hd) (Nat.le_of_ble_eq_true rfl) dX6_tour_15 (fun v22 σ21 h => ?_)
      refine r_ifne (pc := 18) (tgt := 23) C dX6_tour_18 (by decide) h (fun h => ?_) (fun h => ?_)
      · refine r_pick (lv' := [(0, rv B a0), (1, .int x1)]) [0, 1] rfl ?_
        exact hk4 _ h
      · refine r_iconst (pc := 21) (v := (-1)) C dX6_tour_21 (by decide) ?_
        exact r_iret (pc := 22) C rfl dX6_tour_22 h E
theorem t_X6_tour {F : Nat} {σ : MM} {a0 : Nat} {x1 : Int32} {r : Int32 × MM} (h : g_X6_tour F σ a0 x1 = some r) : mT σ a0 = (5, 62) := by
  unfold g_X6_tour at h
  exact (r_ck h).1
theorem fd_X6_400 : xFg RX6 400 5 62 50 := ⟨_, rfl, rfl, by decide, by decide, in_X6, Or.inl q1315⟩
theorem ft_X6_50 : xFt 5 50 .int false := ⟨_, rfl, by decide +kernel, rfl, rfl⟩
theorem fd_X6_89 : xFg RX6 89 5 62 48 := ⟨_, rfl, rfl, by decide, by decide, in_X6, Or.inl q1313⟩
theorem ft_X6_48 : xFt 5 48 (.array .int) true := ⟨_, rfl, by decide +kernel, rfl, rfl⟩
theorem fd_X6_92 : xFg RX6 92 5 62 49 := ⟨_, rfl, rfl, by decide, by decide, in_X6, Or.inl q1314⟩
theorem ft_X6_49 : xFt 5 49 (.array .int) true := ⟨_, rfl, by decide +kernel, rfl, rfl⟩
def l_X6_laysCoins_34 (K : MM → Option (Int32 × MM)) (F : Nat) (a0 : Nat) (x2 : Int32) (x3 : Int32) : Nat → Int32 → MM → Option (Int32 × MM)
  | 0, _, _ => none
  | f + 1, z4, σ => bq (g_X6_debtOf F σ a0 x2 x3) fun v5 σ4 => if z4 < v5 then ((gP σ4 a0 5 62 48).bind fun p6 => (gI σ4 a0 5 62 50).bind fun v7 => (sI σ4 p6 v7 x2).bind fun σ8 => (gP σ8 a0 5 62 49).bind fun p9 => (gI σ8 a0 5 62 50).bind fun v10 => (sI σ8 p9 v10 x3).bind fun σ11 => (gI σ11 a0 5 62 50).bind fun v12 => (pI σ11 a0 5 62 50 ((v12 + 1))).bind fun σ13 => l_X6_laysCoins_34 K F a0 x2 x3 f ((z4 + 1)) σ13) else (K σ4)
def l_X6_laysCoins_25 (K : MM → Option (Int32 × MM)) (F : Nat) (a0 : Nat) (x2 : Int32) : Nat → Int32 → MM → Option (Int32 × MM)
  | 0, _, _ => none
  | f + 1, z3, σ => if z3 < 10 then (l_X6_laysCoins_34 (fun (σ14 : MM) => l_X6_laysCoins_25 K F a0 x2 f ((z3 + 1)) σ14) F a0 x2 z3 F 0 σ) else (K σ)
def l_X6_laysCoins_17 (K : MM → Option (Int32 × MM)) (F : Nat) (a0 : Nat) : Nat → Int32 → MM → Option (Int32 × MM)
  | 0, _, _ => none
  | f + 1, z2, σ => if z2 < 10 then (l_X6_laysCoins_25 (fun (σ15 : MM) => l_X6_laysCoins_17 K F a0 f ((z2 + 1)) σ15) F a0 z2 F 0 σ) else (K σ)
def g_X6_laysCoins (F : Nat) (σ : MM) (a0 : Nat) (x1 : Int32) : Option (Int32 × MM) := if mT σ a0 = (5, 62) then ((pI σ a0 5 62 50 0).bind fun σ1 => bq (g_X6_owedInAll F σ1 a0) fun v3 σ2 => if x1 < v3 then (some (0, σ2)) else (l_X6_laysCoins_17 (fun (σ16 : MM) => some (1, σ16)) F a0 F 0 σ2)) else none
theorem wl_X6_laysCoins_34 {B : Nat} {G : XG} {d : Nat} {rf : Int32} {σf : MM} (hd : 3 ≤ d) (C : xC B G yX6_laysCoins cX6_laysCoins 5 (some .boolean) d 0 0) (E : xEnd B G (some (.int rf)) σf 0 0) {K : MM → Option (Int32 × MM)} {F : Nat} {a0 : Nat} {x2 : Int32} {x3 : Int32} (hK : ∀ (σ : MM), K σ = some (rf, σf) → xV B G 0 0 σ 81 [(0, rv B a0), (2, .int x2), (3, .int x3)] []) : ∀ (f : Nat) (z4 : Int32) (σ : MM), l_X6_laysCoins_34 K F a0 x2 x3 f z4 σ = some (rf, σf) → xV B G 0 0 σ 34 [(0, rv B a0), (2, .int x2), (3, .int x3), (4, .int z4)] [] := by
  intro f
  induction f with
  | zero =>
    intro z4 σ h
    have h : none = some (rf, σf) := h
    cases h
  | succ f ih =>
    intro z4 σ h
    rw [l_X6_laysCoins_34.eq_2] at h
    refine r_iload (pc := 34) (i := 4) C dX6_laysCoins_34 rfl ?_
    refine r_aload_n (pc := 36) (i := 0) C dX6_laysCoins_36 rfl rfl ?_
    refine r_iload_n (pc := 37) (i := 2) C dX6_laysCoins_37 rfl rfl ?_
    refine r_iload_n (pc := 38) (i := 3) C dX6_laysCoins_38 rfl rfl ?_
    refine r_callVI (pc := 39) (As := [.int x2, .int x3]) (st := [.int z4]) C cs_X6_147_X6_debtOf h (fun _ _ e => w_X6_debtOf (Nat.le_refl 0) e) (fun _ _ e => t_X6_debtOf e) (Nat.le_trans (Nat.le_of_ble_eq_true rfl) hd) (Nat.le_of_ble_eq_true rfl) dX6_laysCoins_39 (fun v5 σ4 h => ?_)
    refine r_icmpge (pc := 42) (tgt := 81) C dX6_laysCoins_42 (by decide) h (fun h => ?_) (fun h => ?_)
    · refine r_pick (lv' := [(0, rv B a0), (2, .int x2), (3, .int x3)]) [0, 2, 3] rfl ?_
      exact hK _ h
    · refine r_aload_n (pc := 45) (i := 0) C dX6_laysCoins_45 rfl rfl ?_
      refine r_getP (pc := 46) C fd_X6_89 rfl dX6_laysCoins_46 h (fun p6 h => ?_)
      refine r_aload_n (pc := 49) (i := 0) C dX6_laysCoins_49 rfl rfl ?_
      refine r_getI (pc := 50) C fd_X6_400 rfl dX6_laysCoins_50 h (fun v7 h => ?_)
      refine r_iload_n (pc := 53) (i := 2) C dX6_laysCoins_53 rfl rfl ?_
      refine r_iast (pc := 54) C dX6_laysCoins_54 h (fun σ8 h => ?_)
      refine r_aload_n (pc := 55) (i := 0) C dX6_laysCoins_55 rfl rfl ?_
      refine r_getP (pc := 56) C fd_X6_92 rfl dX6_laysCoins_56 h (fun p9 h => ?_)
      refine r_aload_n (pc := 59) (i := 0) C dX6_laysCoins_59 rfl rfl ?_
      refine r_getI (pc := 60) C fd_X6_400 rfl dX6_laysCoins_60 h (fun v10 h => ?_)
      refine r_iload_n (pc := 63) (i := 3) C dX6_laysCoins_63 rfl rfl ?_
      refine r_iast (pc := 64) C dX6_laysCoins_64 h (fun σ11 h => ?_)
      refine r_aload_n (pc := 65) (i := 0) C dX6_laysCoins_65 rfl rfl ?_
      refine r_aload_n (pc := 66) (i := 0) C dX6_laysCoins_66 rfl rfl ?_
      refine r_getI (pc := 67) C fd_X6_400 rfl dX6_laysCoins_67 h (fun v12 h => ?_)
      refine r_iconst (pc := 70) (v := 1) C dX6_laysCoins_70 (by decide) ?_
      refine r_iadd (pc := 71) C dX6_laysCoins_71 ?_
      refine r_putI (pc := 72) C fd_X6_400 ft_X6_50 dX6_laysCoins_72 h (fun σ13 h => ?_)
      refine r_iinc (pc := 75) (i := 4) (v := (z4 + 1)) C dX6_laysCoins_75 rfl rfl (by decide) ?_
      refine r_goto (pc := 78) (tgt := 34) C dX6_laysCoins_78 (by decide) ?_
      refine r_pick (lv' := [(0, rv B a0), (2, .int x2), (3, .int x3), (4, .int (z4 + 1))]) [0, 2, 3, 4] rfl ?_
      exact ih _ _ h
theorem wl_X6_laysCoins_25 {B : Nat} {G : XG} {d : Nat} {rf : Int32} {σf : MM} (hd : 3 ≤ d) (C : xC B G yX6_laysCoins cX6_laysCoins 5 (some .boolean) d 0 0) (E : xEnd B G (some (.int rf)) σf 0 0) {K : MM → Option (Int32 × MM)} {F : Nat} {a0 : Nat} {x2 : Int32} (hK : ∀ (σ : MM), K σ = some (rf, σf) → xV B G 0 0 σ 87 [(0, rv B a0), (2, .int x2)] []) : ∀ (f : Nat) (z3 : Int32) (σ : MM), l_X6_laysCoins_25 K F a0 x2 f z3 σ = some (rf, σf) → xV B G 0 0 σ 25 [(0, rv B a0), (2, .int x2), (3, .int z3)] [] := by
  intro f
  induction f with
  | zero =>
    intro z3 σ h
    have h : none = some (rf, σf) := h
    cases h
  | succ f ih =>
    intro z3 σ h
    rw [l_X6_laysCoins_25.eq_2] at h
    refine r_iload_n (pc := 25) (i := 3) C dX6_laysCoins_25 rfl rfl ?_
    refine r_bipush (pc := 26) (v := 10) C dX6_laysCoins_26 (by decide) ?_
    refine r_icmpge (pc := 28) (tgt := 87) C dX6_laysCoins_28 (by decide) h (fun h => ?_) (fun h => ?_)
    · refine r_pick (lv' := [(0, rv B a0), (2, .int x2)]) [0, 2] rfl ?_
      exact hK _ h
    · refine r_iconst (pc := 31) (v := 0) C dX6_laysCoins_31 (by decide) ?_
      refine r_istore (pc := 32) (i := 4) C dX6_laysCoins_32 (by decide) ?_
      refine r_pick (lv' := [(0, rv B a0), (2, .int x2), (3, .int z3), (4, .int 0)]) [0, 2, 3, 4] rfl ?_
      refine wl_X6_laysCoins_34 hd C E (fun  σ14 h => ?_) _ _ _ h
      refine r_iinc (pc := 81) (i := 3) (v := (z3 + 1)) C dX6_laysCoins_81 rfl rfl (by decide) ?_
      refine r_goto (pc := 84) (tgt := 25) C dX6_laysCoins_84 (by decide) ?_
      refine r_pick (lv' := [(0, rv B a0), (2, .int x2), (3, .int (z3 + 1))]) [0, 2, 3] rfl ?_
      exact ih _ _ h
theorem wl_X6_laysCoins_17 {B : Nat} {G : XG} {d : Nat} {rf : Int32} {σf : MM} (hd : 3 ≤ d) (C : xC B G yX6_laysCoins cX6_laysCoins 5 (some .boolean) d 0 0) (E : xEnd B G (some (.int rf)) σf 0 0) {K : MM → Option (Int32 × MM)} {F : Nat} {a0 : Nat} (hK : ∀ (σ : MM), K σ = some (rf, σf) → xV B G 0 0 σ 93 [] []) : ∀ (f : Nat) (z2 : Int32) (σ : MM), l_X6_laysCoins_17 K F a0 f z2 σ = some (rf, σf) → xV B G 0 0 σ 17 [(0, rv B a0), (2, .int z2)] [] := by
  intro f
  induction f with
  | zero =>
    intro z2 σ h
    have h : none = some (rf, σf) := h
    cases h
  | succ f ih =>
    intro z2 σ h
    rw [l_X6_laysCoins_17.eq_2] at h
    refine r_iload_n (pc := 17) (i := 2) C dX6_laysCoins_17 rfl rfl ?_
    refine r_bipush (pc := 18) (v := 10) C dX6_laysCoins_18 (by decide) ?_
    refine r_icmpge (pc := 20) (tgt := 93) C dX6_laysCoins_20 (by decide) h (fun h => ?_) (fun h => ?_)
    · refine r_pick (lv' := []) [] rfl ?_
      exact hK _ h
    · refine r_iconst (pc := 23) (v := 0) C dX6_laysCoins_23 (by decide) ?_
      refine r_istore_n (pc := 24) (i := 3) C dX6_laysCoins_24 rfl (by decide) ?_
      refine r_pick (lv' := [(0, rv B a0), (2, .int z2), (3, .int 0)]) [0, 2, 3] rfl ?_
      refine wl_X6_laysCoins_25 hd C E (fun  σ15 h => ?_) _ _ _ h
      refine r_iinc (pc := 87) (i := 2) (v := (z2 + 1)) C dX6_laysCoins_87 rfl rfl (by decide) ?_
      refine r_goto (pc := 90) (tgt := 17) C dX6_laysCoins_90 (by decide) ?_
      refine r_pick (lv' := [(0, rv B a0), (2, .int (z2 + 1))]) [0, 2] rfl ?_
      exact ih _ _ h
theorem w_X6_laysCoins {B F : Nat} {d : Nat} {σ : MM} {a0 : Nat} {x1 : Int32} {rf : Int32} {σf : MM} (hd : 3 ≤ d) (h : g_X6_laysCoins F σ a0 x1 = some (rf, σf)) : xMA B yX6_laysCoins cX6_laysCoins 5 (some .boolean) d 0 0 [rv B a0, .int x1] σ (some (.int rf)) σf := by
  refine xMA.of (by decide +kernel) (Nat.le_of_ble_eq_true rfl) (cat_rv (cat_int cat_nil)) (fun G C E => ?_)
  unfold g_X6_laysCoins at h
  obtain ⟨-, h⟩ := r_ck h
  refine r_aload_n (pc := 0) (i := 0) C dX6_laysCoins_0 rfl rfl ?_
  refine r_iconst (pc := 1) (v := 0) C dX6_laysCoins_1 (by decide) ?_
  refine r_putI (pc := 2) C fd_X6_400 ft_X6_50 dX6_laysCoins_2 h (fun σ1 h => ?_)
  refine r_aload_n (pc := 5) (i := 0) C dX6_laysCoins_5 rfl rfl ?_
  refine r_callVI (pc := 6) (As := []) (st := []) C cs_X6_296_X6_owedInAll h (fun _ _ e => w_X6_owedInAll (Nat.le_refl 2) e) (fun _ _ e => t_X6_owedInAll e) (Nat.le_trans (Nat.le_of_ble_eq_true rfl) hd) (Nat.le_of_ble_eq_true rfl) dX6_laysCoins_6 (fun v3 σ2 h => ?_)
  refine r_iload_n (pc := 9) (i := 1) C dX6_laysCoins_9 rfl rfl ?_
  refine r_icmple (pc := 10) (tgt := 15) C dX6_laysCoins_10 (by decide) h (fun h => ?_) (fun h => ?_)
  · refine r_iconst (pc := 15) (v := 0) C dX6_laysCoins_15 (by decide) ?_
    refine r_istore_n (pc := 16) (i := 2) C dX6_laysCoins_16 rfl (by decide) ?_
    refine r_pick (lv' := [(0, rv B a0), (2, .int 0)]) [0, 2] rfl ?_
    refine wl_X6_laysCoins_17 hd C E (fun  σ16 h => ?_) _ _ _ h
    refine r_iconst (pc := 93) (v := 1) C dX6_laysCoins_93 (by decide) ?_
    exact r_zretL (pc := 94) C rfl dX6_laysCoins_94 (Or.inr rfl) h E
  · refine r_iconst (pc := 13) (v := 0) C dX6_laysCoins_13 (by decide) ?_
    exact r_zretL (pc := 14) C rfl dX6_laysCoins_14 (Or.inl rfl) h E
theorem t_X6_laysCoins {F : Nat} {σ : MM} {a0 : Nat} {x1 : Int32} {r : Int32 × MM} (h : g_X6_laysCoins F σ a0 x1 = some r) : mT σ a0 = (5, 62) := by
  unfold g_X6_laysCoins at h
  exact (r_ck h).1
