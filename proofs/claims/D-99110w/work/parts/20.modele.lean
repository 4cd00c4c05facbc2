set_option maxRecDepth 100000
theorem fd_X6_96 : xFg RX6 96 5 62 51 := ⟨_, rfl, rfl, by decide, by decide, in_X6, Or.inl q1316⟩
theorem ft_X6_51 : xFt 5 51 (.array .byte) true := ⟨_, rfl, by decide +kernel, rfl, rfl⟩
def l_X6_laysMore_29 (K : Int32 → MM → Option (MM)) (F : Nat) (a0 : Nat) (x2 : Int32) (x3 : Int32) : Nat → Int32 → Int32 → MM → Option (MM)
  | 0, _, _, _ => none
  | f + 1, z4, z5, σ => (gI σ a0 5 62 50).bind fun v2 => if z5 < v2 then ((gP σ a0 5 62 48).bind fun p3 => (aI σ p3 20 z5).bind fun v4 => if v4 = x3 then (bq (g_X6_has F σ x2 z5) fun v6 σ5 => if v6 = 0 then ((gP σ5 a0 5 62 51).bind fun p7 => (gP σ5 a0 5 62 49).bind fun p8 => (aI σ5 p8 20 z5).bind fun v9 => (aI σ5 p7 21 (((10 * (x2 ||| ((1 : Int32) <<< (z5 &&& 31)))) + v9))).bind fun v10 => bq (g_X6_max F σ5 z4 ((1 + v10))) fun v12 σ11 => l_X6_laysMore_29 K F a0 x2 x3 f v12 ((z5 + 1)) σ11) else (l_X6_laysMore_29 K F a0 x2 x3 f z4 ((z5 + 1)) σ5)) else (l_X6_laysMore_29 K F a0 x2 x3 f z4 ((z5 + 1)) σ)) else (K z4 σ)
def l_X6_laysMore_17 (K : MM → Option (MM)) (F : Nat) (a0 : Nat) (x2 : Int32) : Nat → Int32 → MM → Option (MM)
  | 0, _, _ => none
  | f + 1, z3, σ => if z3 < 10 then (l_X6_laysMore_29 (fun (r4_14 : Int32) (σ13 : MM) => (gP σ13 a0 5 62 51).bind fun p15 => (sB σ13 p15 (((10 * x2) + z3)) (r4_14.toInt8.toInt32)).bind fun σ16 => l_X6_laysMore_17 K F a0 x2 f ((z3 + 1)) σ16) F a0 x2 z3 F 0 0 σ) else (K σ)
def l_X6_laysMore_11 (K : MM → Option (MM)) (F : Nat) (a0 : Nat) : Nat → Int32 → MM → Option (MM)
  | 0, _, _ => none
  | f + 1, z2, σ => if z2 < 0 then (K σ) else (l_X6_laysMore_17 (fun (σ17 : MM) => l_X6_laysMore_11 K F a0 f ((z2 + (-1))) σ17) F a0 z2 F 0 σ)
def g_X6_laysMore (F : Nat) (σ : MM) (a0 : Nat) : Option (MM) := if mT σ a0 = (5, 62) then ((gI σ a0 5 62 50).bind fun v1 => l_X6_laysMore_11 (fun (σ18 : MM) => some σ18) F a0 F ((((1 : Int32) <<< (v1 &&& 31)) - 1)) σ) else none
theorem wl_X6_laysMore_29 {B : Nat} {G : XG} {d : Nat} {σf : MM} (hd : 1 ≤ d) (C : xC B G yX6_laysMore cX6_laysMore 6 none d 0 0) (E : xEnd B G none σf 0 0) {K : Int32 → MM → Option (MM)} {F : Nat} {a0 : Nat} {x2 : Int32} {x3 : Int32} (hK : ∀ (q4 : Int32) (σ : MM), K q4 σ = some σf → xV B G 0 0 σ 95 [(0, rv B a0), (2, .int x2), (3, .int x3), (4, .int q4)] []) : ∀ (f : Nat) (z4 : Int32) (z5 : Int32) (σ : MM), l_X6_laysMore_29 K F a0 x2 x3 f z4 z5 σ = some σf → xV B G 0 0 σ 29 [(0, rv B a0), (2, .int x2), (3, .int x3), (4, .int z4), (5, .int z5)] [] := by
  intro f
  induction f with
  | zero =>
    intro z4 z5 σ h
    have h : none = some σf := h
    cases h
  | succ f ih =>
    intro z4 z5 σ h
    rw [l_X6_laysMore_29.eq_2] at h
    refine r_iload (pc := 29) (i := 5) C dX6_laysMore_29 rfl ?_
    refine r_aload_n (pc := 31) (i := 0) C dX6_laysMore_31 rfl rfl ?_
    refine r_getI (pc := 32) C fd_X6_400 rfl dX6_laysMore_32 h (fun v2 h => ?_)
    refine r_icmpge (pc := 35) (tgt := 95) C dX6_laysMore_35 (by decide) h (fun h => ?_) (fun h => ?_)
    · refine r_pick (lv' := [(0, rv B a0), (2, .int x2), (3, .int x3), (4, .int z4)]) [0, 2, 3, 4] rfl ?_
      exact hK _ _ h
    · refine r_aload_n (pc := 38) (i := 0) C dX6_laysMore_38 rfl rfl ?_
      refine r_getP (pc := 39) C fd_X6_89 rfl dX6_laysMore_39 h (fun p3 h => ?_)
      refine r_iload (pc := 42) (i := 5) C dX6_laysMore_42 rfl ?_
      refine r_iald (pc := 44) C dX6_laysMore_44 h (fun v4 h => ?_)
      refine r_iload_n (pc := 45) (i := 3) C dX6_laysMore_45 rfl rfl ?_
      refine r_icmpne (pc := 46) (tgt := 89) C dX6_laysMore_46 (by decide) h (fun h => ?_) (fun h => ?_)
      · refine r_iinc (pc := 89) (i := 5) (v := (z5 + 1)) C dX6_laysMore_89 rfl rfl (by decide) ?_
        refine r_goto (pc := 92) (tgt := 29) C dX6_laysMore_92 (by decide) ?_
        refine r_pick (lv' := [(0, rv B a0), (2, .int x2), (3, .int x3), (4, .int z4), (5, .int (z5 + 1))]) [0, 2, 3, 4, 5] rfl ?_
        exact ih _ _ _ h
      · refine r_iload_n (pc := 49) (i := 2) C dX6_laysMore_49 rfl rfl ?_
        refine r_iload (pc := 50) (i := 5) C dX6_laysMore_50 rfl ?_
        refine r_callSI (pc := 52) (As := [.int x2, .int z5]) (st := []) C cs_X6_131_X6_has h (fun _ _ e => w_X6_has (Nat.le_refl 0) e) (Nat.le_trans (Nat.le_of_ble_eq_true rfl) hd) (Nat.le_of_ble_eq_true rfl) dX6_laysMore_52 (fun v6 σ5 h => ?_)
        refine r_ifne (pc := 55) (tgt := 89) C dX6_laysMore_55 (by decide) h (fun h => ?_) (fun h => ?_)
        · refine r_iinc (pc := 89) (i := 5) (v := (z5 + 1)) C dX6_laysMore_89 rfl rfl (by decide) ?_
          refine r_goto (pc := 92) (tgt := 29) C dX6_laysMore_92 (by decide) ?_
          refine r_pick (lv' := [(0, rv B a0), (2, .int x2), (3, .int x3), (4, .int z4), (5, .int (z5 + 1))]) [0, 2, 3, 4, 5] rfl ?_
          exact ih _ _ _ h
        · refine r_iload (pc := 58) (i := 4) C dX6_laysMore_58 rfl ?_
          refine r_iconst (pc := 60) (v := 1) C dX6_laysMore_60 (by decide) ?_
          refine r_aload_n (pc := 61) (i := 0) C dX6_laysMore_61 rfl rfl ?_
          refine r_getP (pc := 62) C fd_X6_96 rfl dX6_laysMore_62 h (fun p7 h => ?_)
          refine r_bipush (pc := 65) (v := 10) C dX6_laysMore_65 (by decide) ?_
          refine r_iload_n (pc := 67) (i := 2) C dX6_laysMore_67 rfl rfl ?_
          refine r_iconst (pc := 68) (v := 1) C dX6_laysMore_68 (by decide) ?_
          refine r_iload (pc := 69) (i := 5) C dX6_laysMore_69 rfl ?_
          refine r_ishl (pc := 71) C dX6_laysMore_71 ?_
          refine r_ior (pc := 72) C dX6_laysMore_72 ?_
          refine r_imul (pc := 73) C dX6_laysMore_73 ?_
          refine r_aload_n (pc := 74) (i := 0) C dX6_laysMore_74 rfl rfl ?_
          refine r_getP (pc := 75) C fd_X6_92 rfl dX6_laysMore_75 h (fun p8 h => ?_)
          refine r_iload (pc := 78) (i := 5) C dX6_laysMore_78 rfl ?_
          refine r_iald (pc := 80) C dX6_laysMore_80 h (fun v9 h => ?_)
          refine r_iadd (pc := 81) C dX6_laysMore_81 ?_
          refine r_bald (pc := 82) C dX6_laysMore_82 h (fun v10 h => ?_)
          refine r_iadd (pc := 83) C dX6_laysMore_83 ?_
          refine r_callSI (pc := 84) (As := [.int z4, .int (1 + v10)]) (st := []) C cs_X6_143_X6_max h (fun _ _ e => w_X6_max (Nat.le_refl 0) e) (Nat.le_trans (Nat.le_of_ble_eq_true rfl) hd) (Nat.le_of_ble_eq_true rfl) dX6_laysMore_84 (fun v12 σ11 h => ?_)
          refine r_istore (pc := 87) (i := 4) C dX6_laysMore_87 (by decide) ?_
          refine r_iinc (pc := 89) (i := 5) (v := (z5 + 1)) C dX6_laysMore_89 rfl rfl (by decide) ?_
          refine r_goto (pc := 92) (tgt := 29) C dX6_laysMore_92 (by decide) ?_
          refine r_pick (lv' := [(0, rv B a0), (2, .int x2), (3, .int x3), (4, .int v12), (5, .int (z5 + 1))]) [0, 2, 3, 4, 5] rfl ?_
          exact ih _ _ _ h
theorem wl_X6_laysMore_17 {B : Nat} {G : XG} {d : Nat} {σf : MM} (hd : 1 ≤ d) (C : xC B G yX6_laysMore cX6_laysMore 6 none d 0 0) (E : xEnd B G none σf 0 0) {K : MM → Option (MM)} {F : Nat} {a0 : Nat} {x2 : Int32} (hK : ∀ (σ : MM), K σ = some σf → xV B G 0 0 σ 115 [(0, rv B a0), (2, .int x2)] []) : ∀ (f : Nat) (z3 : Int32) (σ : MM), l_X6_laysMore_17 K F a0 x2 f z3 σ = some σf → xV B G 0 0 σ 17 [(0, rv B a0), (2, .int x2), (3, .int z3)] [] := by
  intro f
  induction f with
  | zero =>
    intro z3 σ h
    have h : none = some σf := h
    cases h
  | succ f ih =>
    intro z3 σ h
    rw [l_X6_laysMore_17.eq_2] at h
    refine r_iload_n (pc := 17) (i := 3) C dX6_laysMore_17 rfl rfl ?_
    refine r_bipush (pc := 18) (v := 10) C dX6_laysMore_18 (by decide) ?_
    refine r_icmpge (pc := 20) (tgt := 115) C dX6_laysMore_20 (by decide) h (fun h => ?_) (fun h => ?_)
    · refine r_pick (lv' := [(0, rv B a0), (2, .int x2)]) [0, 2] rfl ?_
      exact hK _ h
    · refine r_iconst (pc := 23) (v := 0) C dX6_laysMore_23 (by decide) ?_
      refine r_istore (pc := 24) (i := 4) C dX6_laysMore_24 (by decide) ?_
      refine r_iconst (pc := 26) (v := 0) C dX6_laysMore_26 (by decide) ?_
      refine r_istore (pc := 27) (i := 5) C dX6_laysMore_27 (by decide) ?_
      refine r_pick (lv' := [(0, rv B a0), (2, .int x2), (3, .int z3), (4, .int 0), (5, .int 0)]) [0, 2, 3, 4, 5] rfl ?_
      refine wl_X6_laysMore_29 hd C E (fun r4_14 σ13 h => ?_) _ _ _ _ h
      refine r_aload_n (pc := 95) (i := 0) C dX6_laysMore_95 rfl rfl ?_
      refine r_getP (pc := 96) C fd_X6_96 rfl dX6_laysMore_96 h (fun p15 h => ?_)
      refine r_bipush (pc := 99) (v := 10) C dX6_laysMore_99 (by decide) ?_
      refine r_iload_n (pc := 101) (i := 2) C dX6_laysMore_101 rfl rfl ?_
      refine r_imul (pc := 102) C dX6_laysMore_102 ?_
      refine r_iload_n (pc := 103) (i := 3) C dX6_laysMore_103 rfl rfl ?_
      refine r_iadd (pc := 104) C dX6_laysMore_104 ?_
      refine r_iload (pc := 105) (i := 4) C dX6_laysMore_105 rfl ?_
      refine r_i2b (pc := 107) C dX6_laysMore_107 ?_
      refine r_bast (pc := 108) C dX6_laysMore_108 h (fun σ16 h => ?_)
      refine r_iinc (pc := 109) (i := 3) (v := (z3 + 1)) C dX6_laysMore_109 rfl rfl (by decide) ?_
      refine r_goto (pc := 112) (tgt := 17) C dX6_laysMore_112 (by decide) ?_
      refine r_pick (lv' := [(0, rv B a0), (2, .int x2), (3, .int (z3 + 1))]) [0, 2, 3] rfl ?_
      exact ih _ _ h
theorem wl_X6_laysMore_11 {B : Nat} {G : XG} {d : Nat} {σf : MM} (hd : 1 ≤ d) (C : xC B G yX6_laysMore cX6_laysMore 6 none d 0 0) (E : xEnd B G none σf 0 0) {K : MM → Option (MM)} {F : Nat} {a0 : Nat} (hK : ∀ (σ : MM), K σ = some σf → xV B G 0 0 σ 121 [] []) : ∀ (f : Nat) (z2 : Int32) (σ : MM), l_X6_laysMore_11 K F a0 f z2 σ = some σf → xV B G 0 0 σ 11 [(0, rv B a0), (2, .int z2)] [] := by
  intro f
  induction f with
  | zero =>
    intro z2 σ h
    have h : none = some σf := h
    cases h
  | succ f ih =>
    intro z2 σ h
    rw [l_X6_laysMore_11.eq_2] at h
    refine r_iload_n (pc := 11) (i := 2) C dX6_laysMore_11 rfl rfl ?_
    refine r_iflt (pc := 12) (tgt := 121) C dX6_laysMore_12 (by decide) h (fun h => ?_) (fun h => ?_)
    · refine r_pick (lv' := []) [] rfl ?_
      exact hK _ h
    · refine r_iconst (pc := 15) (v := 0) C dX6_laysMore_15 (by decide) ?_
      refine r_istore_n (pc := 16) (i := 3) C dX6_laysMore_16 rfl (by decide) ?_
      refine r_pick (lv' := [(0, rv B a0), (2, .int z2), (3, .int 0)]) [0, 2, 3] rfl ?_
      refine wl_X6_laysMore_17 hd C E (fun  σ17 h => ?_) _ _ _ h
      refine r_iinc (pc := 115) (i := 2) (v := (z2 + (-1))) C dX6_laysMore_115 rfl rfl (by decide) ?_
      refine r_goto (pc := 118) (tgt := 11) C dX6_laysMore_118 (by decide) ?_
      refine r_pick (lv' := [(0, rv B a0), (2, .int (z2 + (-1)))]) [0, 2] rfl ?_
      exact ih _ _ h
theorem w_X6_laysMore {B F : Nat} {d : Nat} {σ : MM} {a0 : Nat} {σf : MM} (hd : 1 ≤ d) (h : g_X6_laysMore F σ a0 = some σf) : xMA B yX6_laysMore cX6_laysMore 6 none d 0 0 [rv B a0] σ none σf := by
  refine xMA.of (by decide +kernel) (Nat.le_of_ble_eq_true rfl) (cat_rv cat_nil) (fun G C E => ?_)
  unfold g_X6_laysMore at h
  obtain ⟨-, h⟩ := r_ck h
  refine r_iconst (pc := 0) (v := 1) C dX6_laysMore_0 (by decide) ?_
  refine r_aload_n (pc := 1) (i := 0) C dX6_laysMore_1 rfl rfl ?_
  refine r_getI (pc := 2) C fd_X6_400 rfl dX6_laysMore_2 h (fun v1 h => ?_)
  refine r_ishl (pc := 5) C dX6_laysMore_5 ?_
  refine r_iconst (pc := 6) (v := 1) C dX6_laysMore_6 (by decide) ?_
  refine r_isub (pc := 7) C dX6_laysMore_7 ?_
  refine r_istore_n (pc := 8) (i := 1) C dX6_laysMore_8 rfl (by decide) ?_
  refine r_iload_n (pc := 9) (i := 1) C dX6_laysMore_9 rfl rfl ?_
  refine r_istore_n (pc := 10) (i := 2) C dX6_laysMore_10 rfl (by decide) ?_
  refine r_pick (lv' := [(0, rv B a0), (2, .int (((1 : Int32) <<< (v1 &&& 31)) - 1))]) [0, 2] rfl ?_
  refine wl_X6_laysMore_11 hd C E (fun  σ18 h => ?_) _ _ _ h
  exact r_vret (pc := 121) C rfl dX6_laysMore_121 h E
theorem t_X6_laysMore {F : Nat} {σ : MM} {a0 : Nat} {r : MM} (h : g_X6_laysMore F σ a0 = some r) : mT σ a0 = (5, 62) := by
  unfold g_X6_laysMore at h
  exact (r_ck h).1
def l_X6_bestCoin_5 (K : Int32 → MM → Option (Int32 × MM)) (F : Nat) (a0 : Nat) (x1 : Int32) (x2 : Int32) : Nat → Int32 → Int32 → MM → Option (Int32 × MM)
  | 0, _, _, _ => none
  | f + 1, z3, z4, σ => (gI σ a0 5 62 50).bind fun v1 => if z4 < v1 then ((gP σ a0 5 62 48).bind fun p2 => (aI σ p2 20 z4).bind fun v3 => if v3 = x2 then (bq (g_X6_has F σ x1 z4) fun v5 σ4 => if v5 = 0 then ((gP σ4 a0 5 62 51).bind fun p6 => (gP σ4 a0 5 62 49).bind fun p7 => (aI σ4 p7 20 z4).bind fun v8 => (aI σ4 p6 21 (((10 * (x1 ||| ((1 : Int32) <<< (z4 &&& 31)))) + v8))).bind fun v9 => (gP σ4 a0 5 62 51).bind fun p10 => (aI σ4 p10 21 (((10 * x1) + x2))).bind fun v11 => if (1 + v9) = v11 then (if z3 = (-1) then (l_X6_bestCoin_5 K F a0 x1 x2 f z4 ((z4 + 1)) σ4) else ((gP σ4 a0 5 62 49).bind fun p12 => (aI σ4 p12 20 z4).bind fun v13 => (gP σ4 a0 5 62 49).bind fun p14 => (aI σ4 p14 20 z3).bind fun v15 => if v13 < v15 then (l_X6_bestCoin_5 K F a0 x1 x2 f z4 ((z4 + 1)) σ4) else (l_X6_bestCoin_5 K F a0 x1 x2 f z3 ((z4 + 1)) σ4))) else (l_X6_bestCoin_5 K F a0 x1 x2 f z3 ((z4 + 1)) σ4)) else (l_X6_bestCoin_5 K F a0 x1 x2 f z3 ((z4 + 1)) σ4)) else (l_X6_bestCoin_5 K F a0 x1 x2 f z3 ((z4 + 1)) σ)) else (K z3 σ)
def g_X6_bestCoin (F : Nat) (σ : MM) (a0 : Nat) (x1 : Int32) (x2 : Int32) : Option (Int32 × MM) := if mT σ a0 = (5, 62) then (l_X6_bestCoin_5 (fun (r3_17 : Int32) (σ16 : MM) => some (r3_17, σ16)) F a0 x1 x2 F ((-1)) 0 σ) else none
theorem wl_X6_bestCoin_5 {B : Nat} {G : XG} {d : Nat} {rf : Int32} {σf : MM} (hd : 1 ≤ d) (C : xC B G yX6_bestCoin cX6_bestCoin 5 (some .int) d 0 0) (E : xEnd B G (some (.int rf)) σf 0 0) {K : Int32 → MM → Option (Int32 × MM)} {F : Nat} {a0 : Nat} {x1 : Int32} {x2 : Int32} (hK : ∀ (q3 : Int32) (σ : MM), K q3 σ = some (rf, σf) → xV B G 0 0 σ 105 [(3, .int q3)] []) : ∀ (f : Nat) (z3 : Int32) (z4 : Int32) (σ : MM), l_X6_bestCoin_5 K F a0 x1 x2 f z3 z4 σ = some (rf, σf) → xV B G 0 0 σ 5 [(0, rv B a0), (1, .int x1), (2, .int x2), (3, .int z3), (4, .int z4)] [] := by
  intro f
  induction f with
  | zero =>
    intro z3 z4 σ h
    have h : none = some (rf, σf) := h
    cases h
  | succ f ih =>
    intro z3 z4 σ h
    rw [l_X6_bestCoin_5.eq_2] at h
    refine r_iload (pc := 5) (i := 4) C dX6_bestCoin_5 rfl ?_
    refine r_aload_n (pc := 7) (i := 0) C dX6_bestCoin_7 rfl rfl ?_
    refine r_getI (pc := 8) C fd_X6_400 rfl dX6_bestCoin_8 h (fun v1 h => ?_)
    refine r_icmpge (pc := 11) (tgt := 105) C dX6_bestCoin_11 (by decide) h (fun h => ?_) (fun h => ?_)
    · refine r_pick (lv' := [(3, .int z3)]) [3] rfl ?_
      exact hK _ _ h
    · refine r_aload_n (pc := 14) (i := 0) C dX6_bestCoin_14 rfl rfl ?_
      refine r_getP (pc := 15) C fd_X6_89 rfl dX6_bestCoin_15 h (fun p2 h => ?_)
      refine r_iload (pc := 18) (i := 4) C dX6_bestCoin_18 rfl ?_
      refine r_iald (pc := 20) C dX6_bestCoin_20 h (fun v3 h => ?_)
      refine r_iload_n (pc := 21) (i := 2) C dX6_bestCoin_21 rfl rfl ?_
      refine r_icmpne (pc := 22) (tgt := 99) C dX6_bestCoin_22 (by decide) h (fun h => ?_) (fun h => ?_)
      · refine r_iinc (pc := 99) (i := 4) (v := (z4 + 1)) C dX6_bestCoin_99 rfl rfl (by decide) ?_
        refine r_goto (pc := 102) (tgt := 5) C dX6_bestCoin_102 (by decide) ?_
        refine r_pick (lv' := [(0, rv B a0), (1, .int x1), (2, .int x2), (3, .int z3), (4, .int (z4 + 1))]) [0, 1, 2, 3, 4] rfl ?_
        exact ih _ _ _ h
      · refine r_iload_n (pc := 25) (i := 1) C dX6_bestCoin_25 rfl rfl ?_
        refine r_iload (pc := 26) (i := 4) C dX6_bestCoin_26 rfl ?_
        refine r_callSI (pc := 28) (As := [.int x1, .int z4]) (st := []) C cs_X6_131_X6_has h (fun _ _ e => w_X6_has (Nat.le_refl 0) e) (Nat.le_trans (Nat.le_of_ble_eq_true rfl) hd) (Nat.le_of_ble_eq_true rfl) dX6_bestCoin_28 (fun v5 σ4 h => ?_)
        refine r_ifne (pc := 31) (tgt := 99) C dX6_bestCoin_31 (by decide) h (fun h => ?_) (fun h => ?_)
        · refine r_iinc (pc := 99) (i := 4) (v := (z4 + 1)) C dX6_bestCoin_99 rfl rfl (by decide) ?_
          refine r_goto (pc := 102) (tgt := 5) C dX6_bestCoin_102 (by decide) ?_
          refine r_pick (lv' := [(0, rv B a0), (1, .int x1), (2, .int x2), (3, .int z3), (4, .int (z4 + 1))]) [0, 1, 2, 3, 4] rfl ?_
          exact ih _ _ _ h
        · refine r_iconst (pc := 34) (v := 1) C dX6_bestCoin_34 (by decide) ?_
          refine r_aload_n (pc := 35) (i := 0) C dX6_bestCoin_35 rfl rfl ?_
          refine r_getP (pc := 36) C fd_X6_96 rfl dX6_bestCoin_36 h (fun p6 h => ?_)
          refine r_bipush (pc := 39) (v := 10) C dX6_bestCoin_39 (by decide) ?_
          refine r_iload_n (pc := 41) (i := 1) C dX6_bestCoin_41 rfl rfl ?_
          refine r_iconst (pc := 42) (v := 1) C dX6_bestCoin_42 (by decide) ?_
          refine r_iload (pc := 43) (i := 4) C dX6_bestCoin_43 rfl ?_
          refine r_ishl (pc := 45) C dX6_bestCoin_45 ?_
          refine r_ior (pc := 46) C dX6_bestCoin_46 ?_
          refine r_imul (pc := 47) C dX6_bestCoin_47 ?_
          refine r_aload_n (pc := 48) (i := 0) C dX6_bestCoin_48 rfl rfl ?_
          refine r_getP (pc := 49) C fd_X6_92 rfl dX6_bestCoin_49 h (fun p7 h => ?_)
          refine r_iload (pc := 52) (i := 4) C dX6_bestCoin_52 rfl ?_
          refine r_iald (pc := 54) C dX6_bestCoin_54 h (fun v8 h => ?_)
          refine r_iadd (pc := 55) C dX6_bestCoin_55 ?_
          refine r_bald (pc := 56) C dX6_bestCoin_56 h (fun v9 h => ?_)
          refine r_iadd (pc := 57) C dX6_bestCoin_57 ?_
          refine r_aload_n (pc := 58) (i := 0) C dX6_bestCoin_58 rfl rfl ?_
          refine r_getP (pc := 59) C fd_X6_96 rfl dX6_bestCoin_59 h (fun p10 h => ?_)
          refine r_bipush (pc := 62) (v := 10) C dX6_bestCoin_62 (by decide) ?_
          refine r_iload_n (pc := 64) (i := 1) C dX6_bestCoin_64 rfl rfl ?_
          refine r_imul (pc := 65) C dX6_bestCoin_65 ?_
          refine r_iload_n (pc := 66) (i := 2) C dX6_bestCoin_66 rfl rfl ?_
          refine r_iadd (pc := 67) C dX6_bestCoin_67 ?_
          refine r_bald (pc := 68) C dX6_bestCoin_68 h (fun v11 h => ?_)
          refine r_icmpeq (pc := 69) (tgt := 75) C dX6_bestCoin_69 (by decide) h (fun h => ?_) (fun h => ?_)
          · refine r_iload_n (pc := 75) (i := 3) C dX6_bestCoin_75 rfl rfl ?_
            refine r_iconst (pc := 76) (v := (-1)) C dX6_bestCoin_76 (by decide) ?_
            refine r_icmpeq (pc := 77) (tgt := 96) C dX6_bestCoin_77 (by decide) h (fun h => ?_) (fun h => ?_)
            · refine r_iload (pc := 96) (i := 4) C dX6_bestCoin_96 rfl ?_
              refine r_istore_n (pc := 98) (i := 3) C dX6_bestCoin_98 rfl (by decide) ?_
              refine r_iinc (pc := 99) (i := 4) (v := (z4 + 1)) C dX6_bestCoin_99 rfl rfl (by decide) ?_
              refine r_goto (pc := 102) (tgt := 5) C dX6_bestCoin_102 (by decide) ?_
              refine r_pick (lv' := [(0, rv B a0), (1, .int x1), (2, .int x2), (3, .int z4), (4, .int (z4 + 1))]) [0, 1, 2, 3, 4] rfl ?_
              exact ih _ _ _ h
            · refine r_aload_n (pc := 80) (i := 0) C dX6_bestCoin_80 rfl rfl ?_
              refine r_getP (pc := 81) C fd_X6_92 rfl dX6_bestCoin_81 h (fun p12 h => ?_)
              refine r_iload (pc := 84) (i := 4) C dX6_bestCoin_84 rfl ?_
              refine r_iald (pc := 86) C dX6_bestCoin_86 h (fun v13 h => ?_)
              refine r_aload_n (pc := 87) (i := 0) C dX6_bestCoin_87 rfl rfl ?_
              refine r_getP (pc := 88) C fd_X6_92 rfl dX6_bestCoin_88 h (fun p14 h => ?_)
              refine r_iload_n (pc := 91) (i := 3) C dX6_bestCoin_91 rfl rfl ?_
              refine r_iald (pc := 92) C dX6_bestCoin_92 h (fun v15 h => ?_)
              refine r_icmpge (pc := 93) (tgt := 99) C dX6_bestCoin_93 (by decide) h (fun h => ?_) (fun h => ?_)
              · refine r_iinc (pc := 99) (i := 4) (v := (z4 + 1)) C dX6_bestCoin_99 rfl rfl (by decide) ?_
                refine r_goto (pc := 102) (tgt := 5) C dX6_bestCoin_102 (by decide) ?_
                refine r_pick (lv' := [(0, rv B a0), (1, .int x1), (2, .int x2), (3, .int z3), (4, .int (z4 + 1))]) [0, 1, 2, 3, 4] rfl ?_
                exact ih _ _ _ h
              · refine r_iload (pc := 96) (i := 4) C dX6_bestCoin_96 rfl ?_
                refine r_istore_n (pc := 98) (i := 3) C dX6_bestCoin_98 rfl (by decide) ?_
                refine r_iinc (pc := 99) (i := 4) (v := (z4 + 1)) C dX6_bestCoin_99 rfl rfl (by decide) ?_
                refine r_goto (pc := 102) (tgt := 5) C dX6_bestCoin_102 (by decide) ?_
                refine r_pick (lv' := [(0, rv B a0), (1, .int x1), (2, .int x2), (3, .int z4), (4, .int (z4 + 1))]) [0, 1, 2, 3, 4] rfl ?_
                exact ih _ _ _ h
          · refine r_goto (pc := 72) (tgt := 99) C dX6_bestCoin_72 (by decide) ?_
            refine r_iinc (pc := 99) (i := 4) (v := (z4 + 1)) C dX6_bestCoin_99 rfl rfl (by decide) ?_
            refine r_goto (pc := 102) (tgt := 5) C dX6_bestCoin_102 (by decide) ?_
            refine r_pick (lv' := [(0, rv B a0), (1, .int x1), (2, .int x2), (3, .int z3), (4, .int (z4 + 1))]) [0, 1, 2, 3, 4] rfl ?_
            exact ih _ _ _ h
theorem w_X6_bestCoin {B F : Nat} {d : Nat} {σ : MM} {a0 : Nat} {x1 : Int32} {x2 : Int32} {rf : Int32} {σf : MM} (hd : 1 ≤ d) (h : g_X6_bestCoin F σ a0 x1 x2 = some (rf, σf)) : xMA B yX6_bestCoin cX6_bestCoin 5 (some .int) d 0 0 [rv B a0, .int x1, .int x2] σ (some (.int rf)) σf := by
  refine xMA.of (by decide +kernel) (Nat.le_of_ble_eq_true rfl) (cat_rv (cat_int (cat_int cat_nil))) (fun G C E => ?_)
  unfold g_X6_bestCoin at h
  obtain ⟨-, h⟩ := r_ck h
  refine r_iconst (pc := 0) (v := (-1)) C dX6_bestCoin_0 (by decide) ?_
  refine r_istore_n (pc := 1) (i := 3) C dX6_bestCoin_1 rfl (by decide) ?_
  refine r_iconst (pc := 2) (v := 0) C dX6_bestCoin_2 (by decide) ?_
  refine r_istore (pc := 3) (i := 4) C dX6_bestCoin_3 (by decide) ?_
  refine r_pick (lv' := [(0, rv B a0), (1, .int x1), (2, .int x2), (3, .int (-1)), (4, .int 0)]) [0, 1, 2, 3, 4] rfl ?_
  refine wl_X6_bestCoin_5 hd C E (fun r3_17 σ16 h => ?_) _ _ _ _ h
  refine r_iload_n (pc := 105) (i := 3) C dX6_bestCoin_105 rfl rfl ?_
  exact r_iret (pc := 106) C rfl dX6_bestCoin_106 h E
theorem t_X6_bestCoin {F : Nat} {σ : MM} {a0 : Nat} {x1 : Int32} {x2 : Int32} {r : Int32 × MM} (h : g_X6_bestCoin F σ a0 x1 x2 = some r) : mT σ a0 = (5, 62) := by
  unfold g_X6_bestCoin at h
  exact (r_ck h).1
theorem yd_X6_laysCoins : xYd yX6_laysCoins 1 := ⟨by decide +kernel, by decide +kernel, by decide +kernel⟩
theorem cs_X6_403_X6_laysCoins : xCV RX6 403 yX6_laysCoins cX6_laysCoins 5 (some .boolean) 5 62 1 := ⟨by decide, by decide, _, rfl, yd_X6_laysCoins, Or.inl ⟨rfl, lw_V q1765 q1767 qs101 q122 q1768⟩⟩
theorem yd_X6_laysMore : xYd yX6_laysMore 0 := ⟨by decide +kernel, by decide +kernel, by decide +kernel⟩
theorem cs_X6_406_X6_laysMore : xCV RX6 406 yX6_laysMore cX6_laysMore 6 none 5 62 0 := ⟨by decide, by decide, _, rfl, yd_X6_laysMore, Or.inl ⟨rfl, lw_V q1769 q1771 qs102 q122 q1772⟩⟩
theorem yd_X6_bestCoin : xYd yX6_bestCoin 2 := ⟨by decide +kernel, by decide +kernel, by decide +kernel⟩
theorem cs_X6_409_X6_bestCoin : xCV RX6 409 yX6_bestCoin cX6_bestCoin 5 (some .int) 5 62 2 := ⟨by decide, by decide, _, rfl, yd_X6_bestCoin, Or.inl ⟨rfl, lw_V q1773 q1775 qs103 q122 q1776⟩⟩
def l_X6_most_102 (K : Int32 → MM → Option (Int32 × MM)) (F : Nat) (a0 : Nat) (x1 : Int32) : Nat → Int32 → Int32 → Int32 → MM → Option (Int32 × MM)
  | 0, _, _, _, _ => none
  | f + 1, z2, z3, z4, σ => if x1 < z4 then (K z3 σ) else (bq (g_X6_bestCoin F σ a0 z2 z3) fun v17 σ16 => (gP σ16 a0 5 62 49).bind fun p18 => (aI σ16 p18 20 v17).bind fun v19 => l_X6_most_102 K F a0 x1 f ((z2 ||| ((1 : Int32) <<< (v17 &&& 31)))) v19 ((z4 + 1)) σ16)
def g_X6_most (F : Nat) (σ : MM) (a0 : Nat) (x1 : Int32) : Option (Int32 × MM) := if mT σ a0 = (5, 62) then (bq (g_X6_in F σ x1 0 11) fun v2 σ1 => jn (fun (σ3 : MM) => (gP σ3 a0 5 62 0).bind fun p5 => (aI σ3 p5 20 151).bind fun v6 => if v6 < 0 then (some ((-2), σ3)) else (bq (g_X6_laysCoins F σ3 a0 12) fun v8 σ7 => if v8 = 0 then (some ((-3), σ7)) else ((g_X6_laysMore F σ7 a0).bind fun σ9 => if x1 = 100 then ((gP σ9 a0 5 62 51).bind fun p22 => (gP σ9 a0 5 62 0).bind fun p23 => (aI σ9 p23 20 151).bind fun v24 => (aI σ9 p22 21 v24).bind fun v25 => some (v25, σ9)) else ((gP σ9 a0 5 62 51).bind fun p10 => (gP σ9 a0 5 62 0).bind fun p11 => (aI σ9 p11 20 151).bind fun v12 => (aI σ9 p10 21 v12).bind fun v13 => if x1 < v13 then ((gP σ9 a0 5 62 0).bind fun p14 => (aI σ9 p14 20 151).bind fun v15 => l_X6_most_102 (fun (r3_21 : Int32) (σ20 : MM) => some (r3_21, σ20)) F a0 x1 F 0 v15 0 σ9) else (some ((-4), σ9)))))) (fun k4 => if v2 = 0 then (if x1 = 100 then (k4 σ1) else (some ((-1), σ1))) else (k4 σ1))) else none
theorem wl_X6_most_102 {B : Nat} {G : XG} {d : Nat} {rf : Int32} {σf : MM} (hd : 4 ≤ d) (C : xC B G yX6_most cX6_most 6 (some .int) d 0 0) (E : xEnd B G (some (.int rf)) σf 0 0) {K : Int32 → MM → Option (Int32 × MM)} {F : Nat} {a0 : Nat} {x1 : Int32} (hK : ∀ (q3 : Int32) (σ : MM), K q3 σ = some (rf, σf) → xV B G 0 0 σ 137 [(3, .int q3)] []) : ∀ (f : Nat) (z2 : Int32) (z3 : Int32) (z4 : Int32) (σ : MM), l_X6_most_102 K F a0 x1 f z2 z3 z4 σ = some (rf, σf) → xV B G 0 0 σ 102 [(0, rv B a0), (1, .int x1), (2, .int z2), (3, .int z3), (4, .int z4)] [] := by
  intro f
  induction f with
  | zero =>
    intro z2 z3 z4 σ h
    have h : none = some (rf, σf) := h
    cases h
  | succ f ih =>
    intro z2 z3 z4 σ h
    rw [l_X6_most_102.eq_2] at h
    refine r_iload (pc := 102) (i := 4) C dX6_most_102 rfl ?_
    refine r_iload_n (pc := 104) (i := 1) C dX6_most_104 rfl rfl ?_
    refine r_icmpgt (pc := 105) (tgt := 137) C dX6_most_105 (by decide) h (fun h => ?_) (fun h => ?_)
    · refine r_pick (lv' := [(3, .int z3)]) [3] rfl ?_
      exact hK _ _ h
    · refine r_aload_n (pc := 108) (i := 0) C dX6_most_108 rfl rfl ?_
      refine r_iload_n (pc := 109) (i := 2) C dX6_most_109 rfl rfl ?_
      refine r_iload_n (pc := 110) (i := 3) C dX6_most_110 rfl rfl ?_
      refine r_callVI (pc := 111) (As := [.int z2, .int z3]) (st := []) C cs_X6_409_X6_bestCoin h (fun _ _ e => w_X6_bestCoin (Nat.le_refl 1) e) (fun _ _ e => t_X6_bestCoin e) (Nat.le_trans (Nat.le_of_ble_eq_true rfl) hd) (Nat.le_of_ble_eq_true rfl) dX6_most_111 (fun v17 σ16 h => ?_)
      refine r_istore (pc := 114) (i := 5) C dX6_most_114 (by decide) ?_
      refine r_iload_n (pc := 116) (i := 2) C dX6_most_116 rfl rfl ?_
      refine r_iconst (pc := 117) (v := 1) C dX6_most_117 (by decide) ?_
      refine r_iload (pc := 118) (i := 5) C dX6_most_118 rfl ?_
      refine r_ishl (pc := 120) C dX6_most_120 ?_
      refine r_ior (pc := 121) C dX6_most_121 ?_
      refine r_istore_n (pc := 122) (i := 2) C dX6_most_122 rfl (by decide) ?_
      refine r_aload_n (pc := 123) (i := 0) C dX6_most_123 rfl rfl ?_
      refine r_getP (pc := 124) C fd_X6_92 rfl dX6_most_124 h (fun p18 h => ?_)
      refine r_iload (pc := 127) (i := 5) C dX6_most_127 rfl ?_
      refine r_iald (pc := 129) C dX6_most_129 h (fun v19 h => ?_)
      refine r_istore_n (pc := 130) (i := 3) C dX6_most_130 rfl (by decide) ?_
      refine r_iinc (pc := 131) (i := 4) (v := (z4 + 1)) C dX6_most_131 rfl rfl (by decide) ?_
      refine r_goto (pc := 134) (tgt := 102) C dX6_most_134 (by decide) ?_
      refine r_pick (lv' := [(0, rv B a0), (1, .int x1), (2, .int (z2 ||| ((1 : Int32) <<< (v17 &&& 31)))), (3, .int v19), (4, .int (z4 + 1))]) [0, 1, 2, 3, 4] rfl ?_
      exact ih _ _ _ _ h
theorem w_X6_most {B F : Nat} {d : Nat} {σ : MM} {a0 : Nat} {x1 : Int32} {rf : Int32} {σf : MM} (hd : 4 ≤ d) (h : g_X6_most F σ a0 x1 = some (rf, σf)) : xMA B yX6_most cX6_most 6 (some .int) d 0 0 [rv B a0, .int x1] σ (some (.int rf)) σf := by
  refine xMA.of (by decide +kernel) (Nat.le_of_ble_eq_true rfl) (cat_rv (cat_int cat_nil)) (fun G C E => ?_)
  unfold g_X6_most at h
  obtain ⟨-, h⟩ := r_ck h
  refine r_iload_n (pc := 0) (i := 1) C dX6_most_0 rfl rfl ?_
  refine r_iconst (pc := 1) (v := 0) C dX6_most_1 (by decide) ?_
  refine r_bipush (pc := 2) (v := 11) C dX6_most_2 (by decide) ?_
  refine r_callSI (pc := 4) (As := [.int x1, .int 0, .int 11]) (st := []) C cs_X6_123_X6_in h (fun _ _ e => w_X6_in (Nat.le_refl 0) e) (Nat.le_trans (Nat.le_of_ble_eq_true rfl) hd) (Nat.le_of_ble_eq_true rfl) dX6_most_4 (fun v2 σ1 h => ?_)
  refine r_jn (fun k9 => ∀  (σ3 : MM), k9 σ3 = some (rf, σf) → xV B G 0 0 σ3 18 [(0, rv B a0), (1, .int x1)] []) h (fun  σ3 h => ?_) (fun k4 hk4 h => ?_)
  · refine r_aload_n (pc := 18) (i := 0) C dX6_most_18 rfl rfl ?_
    refine r_getP (pc := 19) C fd_X6_7 rfl dX6_most_19 h (fun p5 h => ?_)
    refine r_sipush (pc := 22) (v := 151) C dX6_most_22 (by decide) ?_
    refine r_iald (pc := 25) C dX6_most_25 h (fun v6 h => ?_)
    refine r_ifge (pc := 26) (tgt := 32) C dX6_most_26 (by decide) h (fun h => ?_) (fun h => ?_)
    · refine r_aload_n (pc := 32) (i := 0) C dX6_most_32 rfl rfl ?_
      refine r_bipush (pc := 33) (v := 12) C dX6_most_33 (by decide) ?_
      refine r_callVI (pc := 35) (As := [.int 12]) (st := []) C cs_X6_403_X6_laysCoins h (fun _ _ e => w_X6_laysCoins (Nat.le_refl 3) e) (fun _ _ e => t_X6_laysCoins e) (Nat.le_trans (Nat.le_of_ble_eq_true rfl) hd) (Nat.le_of_ble_eq_true rfl) dX6_most_35 (fun v8 σ7 h => ?_)
      refine r_ifne (pc := 38) (tgt := 44) C dX6_most_38 (by decide) h (fun h => ?_) (fun h => ?_)
      · refine r_aload_n (pc := 44) (i := 0) C dX6_most_44 rfl rfl ?_
        refine r_callVV (pc := 45) (As := []) (st := []) C cs_X6_406_X6_laysMore h (fun _ e => w_X6_laysMore (Nat.le_refl 1) e) (fun _ e => t_X6_laysMore e) (Nat.le_trans (Nat.le_of_ble_eq_true rfl) hd) (Nat.le_of_ble_eq_true rfl) dX6_most_45 (fun σ9 h => ?_)
        refine r_iload_n (pc := 48) (i := 1) C dX6_most_48 rfl rfl ?_
        refine r_bipush (pc := 49) (v := 100) C dX6_most_49 (by decide) ?_
        refine r_icmpne (pc := 51) (tgt := 68) C dX6_most_51 (by decide) h (fun h => ?_) (fun h => ?_)
        · refine r_iload_n (pc := 68) (i := 1) C dX6_most_68 rfl rfl ?_
          refine r_aload_n (pc := 69) (i := 0) C dX6_most_69 rfl rfl ?_
          refine r_getP (pc := 70) C fd_X6_96 rfl dX6_most_70 h (fun p10 h => ?_)
          refine r_aload_n (pc := 73) (i := 0) C dX6_most_73 rfl rfl ?_
          refine r_getP (pc := 74) C fd_X6_7 rfl dX6_most_74 h (fun p11 h => ?_)
          refine r_sipush (pc := 77) (v := 151) C dX6_most_77 (by decide) ?_
          refine r_iald (pc := 80) C dX6_most_80 h (fun v12 h => ?_)
          refine r_bald (pc := 81) C dX6_most_81 h (fun v13 h => ?_)
          refine r_icmplt (pc := 82) (tgt := 88) C dX6_most_82 (by decide) h (fun h => ?_) (fun h => ?_)
          · refine r_iconst (pc := 88) (v := 0) C dX6_most_88 (by decide) ?_
            refine r_istore_n (pc := 89) (i := 2) C dX6_most_89 rfl (by decide) ?_
            refine r_aload_n (pc := 90) (i := 0) C dX6_most_90 rfl rfl ?_
            refine r_getP (pc := 91) C fd_X6_7 rfl dX6_most_91 h (fun p14 h => ?_)
            refine r_sipush (pc := 94) (v := 151) C dX6_most_94 (by decide) ?_
            refine r_iald (pc := 97) C dX6_most_97 h (fun v15 h => ?_)
            refine r_istore_n (pc := 98) (i := 3) C dX6_most_98 rfl (by decide) ?_
            refine r_iconst (pc := 99) (v := 0) C dX6_most_99 (by decide) ?_
            refine r_istore (pc := 100) (i := 4) C dX6_most_100 (by decide) ?_
            refine r_pick (lv' := [(0, rv B a0), (1, .int x1), (2, .int 0), (3, .int v15), (4, .int 0)]) [0, 1, 2, 3, 4] rfl ?_
            refine wl_X6_most_102 hd C E (fun r3_21 σ20 h => ?_) _ _ _ _ _ h
            refine r_iload_n (pc := 137) (i := 3) C dX6_most_137 rfl rfl ?_
            exact r_iret (pc := 138) C rfl dX6_most_138 h E
          · refine r_bipush (pc := 85) (v := (-4)) C dX6_most_85 (by decide) ?_
            exact r_iret (pc := 87) C rfl dX6_most_87 h E
        · refine r_aload_n (pc := 54) (i := 0) C dX6_most_54 rfl rfl ?_
          refine r_getP (pc := 55) C fd_X6_96 rfl dX6_most_55 h (fun p22 h => ?_)
          refine r_aload_n (pc := 58) (i := 0) C dX6_most_58 rfl rfl ?_
          refine r_getP (pc := 59) C fd_X6_7 rfl dX6_most_59 h (fun p23 h => ?_)
          refine r_sipush (pc := 62) (v := 151) C dX6_most_62 (by decide) ?_
          refine r_iald (pc := 65) C dX6_most_65 h (fun v24 h => ?_)
          refine r_bald (pc := 66) C dX6_most_66 h (fun v25 h => ?_)
          exact r_iret (pc := 67) C rfl dX6_most_67 h E
      · refine r_bipush (pc := 41) (v := (-3)) C dX6_most_41 (by decide) ?_
        exact r_iret (pc := 43) C rfl dX6_most_43 h E
    · refine r_bipush (pc := 29) (v := (-2)) C dX6_most_29 (by decide) ?_
      exact r_iret (pc := 31) C rfl dX6_most_31 h E
  · refine r_ifne (pc := 7) (tgt := 18) C dX6_most_7 (by decide) h (fun h => ?_) (fun h => ?_)
    · refine r_pick (lv' := [(0, rv B a0), (1, .int x1)]) [0, 1] rfl ?_
      exact hk4 _ h
    · refine r_iload_n (pc := 10) (i := 1) C dX6_most_10 rfl rfl ?_
      refine r_bipush (pc := 11) (v := 100) C dX6_most_11 (by decide) ?_
      refine r_icmpeq (pc := 13) (tgt := 18) C dX6_most_13 (by decide) h (fun h => ?_) (fun h => ?_)
      · refine r_pick (lv' := [(0, rv B a0), (1, .int x1)]) [0, 1] rfl ?_
        exact hk4 _ h
      · refine r_iconst (pc := 16) (v := (-1)) C dX6_most_16 (by decide) ?_
        exact r_iret (pc := 17) C rfl dX6_most_17 h E
theorem t_X6_most {F : Nat} {σ : MM} {a0 : Nat} {x1 : Int32} {r : Int32 × MM} (h : g_X6_most F σ a0 x1 = some r) : mT σ a0 = (5, 62) := by
  unfold g_X6_most at h
  exact (r_ck h).1
theorem fd_X6_99 : xFg RX6 99 5 62 52 := ⟨_, rfl, rfl, by decide, by decide, in_X6, Or.inl q1317⟩
theorem ft_X6_52 : xFt 5 52 (.array .int) true := ⟨_, rfl, by decide +kernel, rfl, rfl⟩
theorem fd_X6_102 : xFg RX6 102 5 62 53 := ⟨_, rfl, rfl, by decide, by decide, in_X6, Or.inl q1318⟩
theorem ft_X6_53 : xFt 5 53 (.array .int) true := ⟨_, rfl, by decide +kernel, rfl, rfl⟩
def l_X6_laysBack_10 (K : MM → Option (MM)) (F : Nat) (a0 : Nat) (x1 : Int32) : Nat → Int32 → MM → Option (MM)
  | 0, _, _ => none
  | f + 1, z2, σ => if z2 < 10 then (bq (g_X6_debtOf F σ a0 x1 z2) fun v2 σ1 => jn (fun (w4 : Int32) (σ3 : MM) => (gP σ3 a0 5 62 52).bind fun p6 => jn (fun (w8 : Int32) (σ7 : MM) => (sI σ7 p6 (((10 * x1) + z2)) w8).bind fun σ10 => (gP σ10 a0 5 62 53).bind fun p11 => if w4 = 0 then ((sI σ10 p11 (((10 * x1) + z2)) 1000000).bind fun σ12 => l_X6_laysBack_10 K F a0 x1 f ((z2 + 1)) σ12) else (bq (g_X6_wayOf F σ10 a0 x1 z2) fun v14 σ13 => (sI σ13 p11 (((10 * x1) + z2)) v14).bind fun σ15 => l_X6_laysBack_10 K F a0 x1 f ((z2 + 1)) σ15)) (fun k9 => if w4 = 0 then (k9 1000000 σ3) else (k9 1 σ3))) (fun k5 => if 0 < v2 then (k5 1 σ1) else (k5 0 σ1))) else (K σ)
def l_X6_laysBack_2 (K : MM → Option (MM)) (F : Nat) (a0 : Nat) : Nat → Int32 → MM → Option (MM)
  | 0, _, _ => none
  | f + 1, z1, σ => if z1 < 10 then (l_X6_laysBack_10 (fun (σ16 : MM) => l_X6_laysBack_2 K F a0 f ((z1 + 1)) σ16) F a0 z1 F 0 σ) else (K σ)
def l_X6_laysBack_110 (K : MM → Option (MM)) (F : Nat) (a0 : Nat) (x1 : Int32) (x2 : Int32) : Nat → Int32 → MM → Option (MM)
  | 0, _, _ => none
  | f + 1, z3, σ => if z3 < 10 then ((gP σ a0 5 62 52).bind fun p18 => (gP σ a0 5 62 52).bind fun p19 => (aI σ p19 20 (((10 * x2) + z3))).bind fun v20 => (gP σ a0 5 62 52).bind fun p21 => (aI σ p21 20 (((10 * x2) + x1))).bind fun v22 => (gP σ a0 5 62 52).bind fun p23 => (aI σ p23 20 (((10 * x1) + z3))).bind fun v24 => bq (g_X6_min F σ v20 ((v22 + v24))) fun v26 σ25 => (sI σ25 p18 (((10 * x2) + z3)) v26).bind fun σ27 => (gP σ27 a0 5 62 53).bind fun p28 => (gP σ27 a0 5 62 53).bind fun p29 => (aI σ27 p29 20 (((10 * x2) + z3))).bind fun v30 => (gP σ27 a0 5 62 53).bind fun p31 => (aI σ27 p31 20 (((10 * x2) + x1))).bind fun v32 => (gP σ27 a0 5 62 53).bind fun p33 => (aI σ27 p33 20 (((10 * x1) + z3))).bind fun v34 => bq (g_X6_min F σ27 v30 ((v32 + v34))) fun v36 σ35 => (sI σ35 p28 (((10 * x2) + z3)) v36).bind fun σ37 => l_X6_laysBack_110 K F a0 x1 x2 f ((z3 + 1)) σ37) else (K σ)
def l_X6_laysBack_102 (K : MM → Option (MM)) (F : Nat) (a0 : Nat) (x1 : Int32) : Nat → Int32 → MM → Option (MM)
  | 0, _, _ => none
  | f + 1, z2, σ => if z2 < 10 then (l_X6_laysBack_110 (fun (σ38 : MM) => l_X6_laysBack_102 K F a0 x1 f ((z2 + 1)) σ38) F a0 x1 z2 F 0 σ) else (K σ)
def l_X6_laysBack_94 (K : MM → Option (MM)) (F : Nat) (a0 : Nat) : Nat → Int32 → MM → Option (MM)
  | 0, _, _ => none
  | f + 1, z1, σ => if z1 < 10 then (l_X6_laysBack_102 (fun (σ39 : MM) => l_X6_laysBack_94 K F a0 f ((z1 + 1)) σ39) F a0 z1 F 0 σ) else (K σ)
def g_X6_laysBack (F : Nat) (σ : MM) (a0 : Nat) : Option (MM) := if mT σ a0 = (5, 62) then (l_X6_laysBack_2 (fun (σ17 : MM) => l_X6_laysBack_94 (fun (σ40 : MM) => some σ40) F a0 F 0 σ17) F a0 F 0 σ) else none
theorem wl_X6_laysBack_10 {B : Nat} {G : XG} {d : Nat} {σf : MM} (hd : 2 ≤ d) (C : xC B G yX6_laysBack cX6_laysBack 4 none d 0 0) (E : xEnd B G none σf 0 0) {K : MM → Option (MM)} {F : Nat} {a0 : Nat} {x1 : Int32} (hK : ∀ (σ : MM), K σ = some σf → xV B G 0 0 σ 86 [(0, rv B a0), (1, .int x1)] []) : ∀ (f : Nat) (z2 : Int32) (σ : MM), l_X6_laysBack_10 K F a0 x1 f z2 σ = some σf → xV B G 0 0 σ 10 [(0, rv B a0), (1, .int x1), (2, .int z2)] [] := by
  intro f
  induction f with
  | zero =>
    intro z2 σ h
    have h : none = some σf := h
    cases h
  | succ f ih =>
    intro z2 σ h
    rw [l_X6_laysBack_10.eq_2] at h
    refine r_iload_n (pc := 10) (i := 2) C dX6_laysBack_10 rfl rfl ?_
    refine r_bipush (pc := 11) (v := 10) C dX6_laysBack_11 (by decide) ?_
    refine r_icmpge (pc := 13) (tgt := 86) C dX6_laysBack_13 (by decide) h (fun h => ?_) (fun h => ?_)
    · refine r_pick (lv' := [(0, rv B a0), (1, .int x1)]) [0, 1] rfl ?_
      exact hK _ h
    · refine r_aload_n (pc := 16) (i := 0) C dX6_laysBack_16 rfl rfl ?_
      refine r_iload_n (pc := 17) (i := 1) C dX6_laysBack_17 rfl rfl ?_
      refine r_iload_n (pc := 18) (i := 2) C dX6_laysBack_18 rfl rfl ?_
      refine r_callVI (pc := 19) (As := [.int x1, .int z2]) (st := []) C cs_X6_147_X6_debtOf h (fun _ _ e => w_X6_debtOf (Nat.le_refl 0) e) (fun _ _ e => t_X6_debtOf e) (Nat.le_trans (Nat.le_of_ble_eq_true rfl) hd) (Nat.le_of_ble_eq_true rfl) dX6_laysBack_19 (fun v2 σ1 h => ?_)
      refine r_jn (fun k9 => ∀ (w4 : Int32) (σ3 : MM), k9 w4 σ3 = some σf → xV B G 0 0 σ3 30 [(0, rv B a0), (1, .int x1), (2, .int z2)] [.int w4]) h (fun w4 σ3 h => ?_) (fun k5 hk5 h => ?_)
      · refine r_istore_n (pc := 30) (i := 3) C dX6_laysBack_30 rfl (by decide) ?_
        refine r_aload_n (pc := 31) (i := 0) C dX6_laysBack_31 rfl rfl ?_
        refine r_getP (pc := 32) C fd_X6_99 rfl dX6_laysBack_32 h (fun p6 h => ?_)
        refine r_bipush (pc := 35) (v := 10) C dX6_laysBack_35 (by decide) ?_
        refine r_iload_n (pc := 37) (i := 1) C dX6_laysBack_37 rfl rfl ?_
        refine r_imul (pc := 38) C dX6_laysBack_38 ?_
        refine r_iload_n (pc := 39) (i := 2) C dX6_laysBack_39 rfl rfl ?_
        refine r_iadd (pc := 40) C dX6_laysBack_40 ?_
        refine r_iload_n (pc := 41) (i := 3) C dX6_laysBack_41 rfl rfl ?_
        refine r_jn (fun k9 => ∀ (w8 : Int32) (σ7 : MM), k9 w8 σ7 = some σf → xV B G 0 0 σ7 52 [(0, rv B a0), (1, .int x1), (2, .int z2), (3, .int w4)] [.int w8, .int ((10 * x1) + z2), rv B p6]) h (fun w8 σ7 h => ?_) (fun k9 hk9 h => ?_)
        · refine r_iast (pc := 52) C dX6_laysBack_52 h (fun σ10 h => ?_)
          refine r_aload_n (pc := 53) (i := 0) C dX6_laysBack_53 rfl rfl ?_
          refine r_getP (pc := 54) C fd_X6_102 rfl dX6_laysBack_54 h (fun p11 h => ?_)
          refine r_bipush (pc := 57) (v := 10) C dX6_laysBack_57 (by decide) ?_
          refine r_iload_n (pc := 59) (i := 1) C dX6_laysBack_59 rfl rfl ?_
          refine r_imul (pc := 60) C dX6_laysBack_60 ?_
          refine r_iload_n (pc := 61) (i := 2) C dX6_laysBack_61 rfl rfl ?_
          refine r_iadd (pc := 62) C dX6_laysBack_62 ?_
          refine r_iload_n (pc := 63) (i := 3) C dX6_laysBack_63 rfl rfl ?_
          refine r_ifeq (pc := 64) (tgt := 76) C dX6_laysBack_64 (by decide) h (fun h => ?_) (fun h => ?_)
          · refine r_ldc_w (pc := 76) C q1785 dX6_laysBack_76 ?_
            refine r_iast (pc := 79) C dX6_laysBack_79 h (fun σ12 h => ?_)
            refine r_iinc (pc := 80) (i := 2) (v := (z2 + 1)) C dX6_laysBack_80 rfl rfl (by decide) ?_
            refine r_goto (pc := 83) (tgt := 10) C dX6_laysBack_83 (by decide) ?_
            refine r_pick (lv' := [(0, rv B a0), (1, .int x1), (2, .int (z2 + 1))]) [0, 1, 2] rfl ?_
            exact ih _ _ h
          · refine r_aload_n (pc := 67) (i := 0) C dX6_laysBack_67 rfl rfl ?_
            refine r_iload_n (pc := 68) (i := 1) C dX6_laysBack_68 rfl rfl ?_
            refine r_iload_n (pc := 69) (i := 2) C dX6_laysBack_69 rfl rfl ?_
            refine r_callVI (pc := 70) (As := [.int x1, .int z2]) (st := [.int ((10 * x1) + z2), rv B p11]) C cs_X6_268_X6_wayOf h (fun _ _ e => w_X6_wayOf (Nat.le_refl 1) e) (fun _ _ e => t_X6_wayOf e) (Nat.le_trans (Nat.le_of_ble_eq_true rfl) hd) (Nat.le_of_ble_eq_true rfl) dX6_laysBack_70 (fun v14 σ13 h => ?_)
            refine r_goto (pc := 73) (tgt := 79) C dX6_laysBack_73 (by decide) ?_
            refine r_iast (pc := 79) C dX6_laysBack_79 h (fun σ15 h => ?_)
            refine r_iinc (pc := 80) (i := 2) (v := (z2 + 1)) C dX6_laysBack_80 rfl rfl (by decide) ?_
            refine r_goto (pc := 83) (tgt := 10) C dX6_laysBack_83 (by decide) ?_
            refine r_pick (lv' := [(0, rv B a0), (1, .int x1), (2, .int (z2 + 1))]) [0, 1, 2] rfl ?_
            exact ih _ _ h
        · refine r_ifeq (pc := 42) (tgt := 49) C dX6_laysBack_42 (by decide) h (fun h => ?_) (fun h => ?_)
          · refine r_ldc_w (pc := 49) C q1785 dX6_laysBack_49 ?_
            refine r_pick (lv' := [(0, rv B a0), (1, .int x1), (2, .int z2), (3, .int w4)]) [0, 1, 2, 3] rfl ?_
            exact hk9 _ _ h
          · refine r_iconst (pc := 45) (v := 1) C dX6_laysBack_45 (by decide) ?_
            refine r_goto (pc := 46) (tgt := 52) C dX6_laysBack_46 (by decide) ?_
            refine r_pick (lv' := [(0, rv B a0), (1, .int x1), (2, .int z2), (3, .int w4)]) [0, 1, 2, 3] rfl ?_
            exact hk9 _ _ h
      · refine r_ifle (pc := 22) (tgt := 29) C dX6_laysBack_22 (by decide) h (fun h => ?_) (fun h => ?_)
        · refine r_iconst (pc := 29) (v := 0) C dX6_laysBack_29 (by decide) ?_
          refine r_pick (lv' := [(0, rv B a0), (1, .int x1), (2, .int z2)]) [0, 1, 2] rfl ?_
          exact hk5 _ _ h
        · refine r_iconst (pc := 25) (v := 1) C dX6_laysBack_25 (by decide) ?_
          refine r_goto (pc := 26) (tgt := 30) C dX6_laysBack_26 (by decide) ?_
          refine r_pick (lv' := [(0, rv B a0), (1, .int x1), (2, .int z2)]) [0, 1, 2] rfl ?_
          exact hk5 _ _ h
theorem wl_X6_laysBack_2 {B : Nat} {G : XG} {d : Nat} {σf : MM} (hd : 2 ≤ d) (C : xC B G yX6_laysBack cX6_laysBack 4 none d 0 0) (E : xEnd B G none σf 0 0) {K : MM → Option (MM)} {F : Nat} {a0 : Nat} (hK : ∀ (σ : MM), K σ = some σf → xV B G 0 0 σ 92 [(0, rv B a0)] []) : ∀ (f : Nat) (z1 : Int32) (σ : MM), l_X6_laysBack_2 K F a0 f z1 σ = some σf → xV B G 0 0 σ 2 [(0, rv B a0), (1, .int z1)] [] := by
  intro f
  induction f with
  | zero =>
    intro z1 σ h
    have h : none = some σf := h
    cases h
  | succ f ih =>
    intro z1 σ h
    rw [l_X6_laysBack_2.eq_2] at h
    refine r_iload_n (pc := 2) (i := 1) C dX6_laysBack_2 rfl rfl ?_
    refine r_bipush (pc := 3) (v := 10) C dX6_laysBack_3 (by decide) ?_
    refine r_icmpge (pc := 5) (tgt := 92) C dX6_laysBack_5 (by decide) h (fun h => ?_) (fun h => ?_)
    · refine r_pick (lv' := [(0, rv B a0)]) [0] rfl ?_
      exact hK _ h
    · refine r_iconst (pc := 8) (v := 0) C dX6_laysBack_8 (by decide) ?_
      refine r_istore_n (pc := 9) (i := 2) C dX6_laysBack_9 rfl (by decide) ?_
      refine r_pick (lv' := [(0, rv B a0), (1, .int z1), (2, .int 0)]) [0, 1, 2] rfl ?_
      refine wl_X6_laysBack_10 hd C E (fun  σ16 h => ?_) _ _ _ h
      refine r_iinc (pc := 86) (i := 1) (v := (z1 + 1)) C dX6_laysBack_86 rfl rfl (by decide) ?_
      refine r_goto (pc := 89) (tgt := 2) C dX6_laysBack_89 (by decide) ?_
      refine r_pick (lv' := [(0, rv B a0), (1, .int (z1 + 1))]) [0, 1] rfl ?_
      exact ih _ _ h
theorem wl_X6_laysBack_110 {B : Nat} {G : XG} {d : Nat} {σf : MM} (hd : 2 ≤ d) (C : xC B G yX6_laysBack cX6_laysBack 4 none d 0 0) (E : xEnd B G none σf 0 0) {K : MM → Option (MM)} {F : Nat} {a0 : Nat} {x1 : Int32} {x2 : Int32} (hK : ∀ (σ : MM), K σ = some σf → xV B G 0 0 σ 218 [(0, rv B a0), (1, .int x1), (2, .int x2)] []) : ∀ (f : Nat) (z3 : Int32) (σ : MM), l_X6_laysBack_110 K F a0 x1 x2 f z3 σ = some σf → xV B G 0 0 σ 110 [(0, rv B a0), (1, .int x1), (2, .int x2), (3, .int z3)] [] := by
  intro f
  induction f with
  | zero =>
    intro z3 σ h
    have h : none = some σf := h
    cases h
  | succ f ih =>
    intro z3 σ h
    rw [l_X6_laysBack_110.eq_2] at h
    refine r_iload_n (pc := 110) (i := 3) C dX6_laysBack_110 rfl rfl ?_
    refine r_bipush (pc := 111) (v := 10) C dX6_laysBack_111 (by decide) ?_
    refine r_icmpge (pc := 113) (tgt := 218) C dX6_laysBack_113 (by decide) h (fun h => ?_) (fun h => ?_)
    · refine r_pick (lv' := [(0, rv B a0), (1, .int x1), (2, .int x2)]) [0, 1, 2] rfl ?_
      exact hK _ h
    · refine r_aload_n (pc := 116) (i := 0) C dX6_laysBack_116 rfl rfl ?_
      refine r_getP (pc := 117) C fd_X6_99 rfl dX6_laysBack_117 h (fun p18 h => ?_)
      refine r_bipush (pc := 120) (v := 10) C dX6_laysBack_120 (by decide) ?_
      refine r_iload_n (pc := 122) (i := 2) C dX6_laysBack_122 rfl rfl ?_
      refine r_imul (pc := 123) C dX6_laysBack_123 ?_
      refine r_iload_n (pc := 124) (i := 3) C dX6_laysBack_124 rfl rfl ?_
      refine r_iadd (pc := 125) C dX6_laysBack_125 ?_
      refine r_aload_n (pc := 126) (i := 0) C dX6_laysBack_126 rfl rfl ?_
      refine r_getP (pc := 127) C fd_X6_99 rfl dX6_laysBack_127 h (fun p19 h => ?_)
      refine r_bipush (pc := 130) (v := 10) C dX6_laysBack_130 (by decide) ?_
      refine r_iload_n (pc := 132) (i := 2) C dX6_laysBack_132 rfl rfl ?_
      refine r_imul (pc := 133) C dX6_laysBack_133 ?_
      refine r_iload_n (pc := 134) (i := 3) C dX6_laysBack_134 rfl rfl ?_
      refine r_iadd (pc := 135) C dX6_laysBack_135 ?_
      refine r_iald (pc := 136) C dX6_laysBack_136 h (fun v20 h => ?_)
      refine r_aload_n (pc := 137) (i := 0) C dX6_laysBack_137 rfl rfl ?_
      refine r_getP (pc := 138) C fd_X6_99 rfl dX6_laysBack_138 h (fun p21 h => ?_)
      refine r_bipush (pc := 141) (v := 10) C dX6_laysBack_141 (by decide) ?_
      refine r_iload_n (pc := 143) (i := 2) C dX6_laysBack_143 rfl rfl ?_
      refine r_imul (pc := 144) C dX6_laysBack_144 ?_
      refine r_iload_n (pc := 145) (i := 1) C dX6_laysBack_145 rfl rfl ?_
      refine r_iadd (pc := 146) C dX6_laysBack_146 ?_
      refine r_iald (pc := 147) C dX6_laysBack_147 h (fun v22 h => ?_)
      refine r_aload_n (pc := 148) (i := 0) C dX6_laysBack_148 rfl rfl ?_
      refine r_getP (pc := 149) C fd_X6_99 rfl dX6_laysBack_149 h (fun p23 h => ?_)
      refine r_bipush (pc := 152) (v := 10) C dX6_laysBack_152 (by decide) ?_
      refine r_iload_n (pc := 154) (i := 1) C dX6_laysBack_154 rfl rfl ?_
      refine r_imul (pc := 155) C dX6_laysBack_155 ?_
      refine r_iload_n (pc := 156) (i := 3) C dX6_laysBack_156 rfl rfl ?_
      refine r_iadd (pc := 157) C dX6_laysBack_157 ?_
      refine r_iald (pc := 158) C dX6_laysBack_158 h (fun v24 h => ?_)
      refine r_iadd (pc := 159) C dX6_laysBack_159 ?_
      refine r_callSI (pc := 160) (As := [.int v20, .int (v22 + v24)]) (st := [.int ((10 * x2) + z3), rv B p18]) C cs_X6_290_X6_min h (fun _ _ e => w_X6_min (Nat.le_refl 0) e) (Nat.le_trans (Nat.le_of_ble_eq_true rfl) hd) (Nat.le_of_ble_eq_true rfl) dX6_laysBack_160 (fun v26 σ25 h => ?_)
      refine r_iast (pc := 163) C dX6_laysBack_163 h (fun σ27 h => ?_)
      refine r_aload_n (pc := 164) (i := 0) C dX6_laysBack_164 rfl rfl ?_
      refine r_getP (pc := 165) C fd_X6_102 rfl dX6_laysBack_165 h (fun p28 h => ?_)
      refine r_bipush (pc := 168) (v := 10) C dX6_laysBack_168 (by decide) ?_
      refine r_iload_n (pc := 170) (i := 2) C dX6_laysBack_170 rfl rfl ?_
      refine r_imul (pc := 171) C dX6_laysBack_171 ?_
      refine r_iload_n (pc := 172) (i := 3) C dX6_laysBack_172 rfl rfl ?_
      refine r_iadd (pc := 173) C dX6_laysBack_173 ?_
      refine r_aload_n (pc := 174) (i := 0) C dX6_laysBack_174 rfl rfl ?_
      refine r_getP (pc := 175) C fd_X6_102 rfl dX6_laysBack_175 h (fun p29 h => ?_)
      refine r_bipush (pc := 178) (v := 10) C dX6_laysBack_178 (by decide) ?_
      refine r_iload_n (pc := 180) (i := 2) C dX6_laysBack_180 rfl rfl ?_
      refine r_imul (pc := 181) C dX6_laysBack_181 ?_
      refine r_iload_n (pc := 182) (i := 3) C dX6_laysBack_182 rfl rfl ?_
      refine r_iadd (pc := 183) C dX6_laysBack_183 ?_
      refine r_iald (pc := 184) C dX6_laysBack_184 h (fun v30 h => ?_)
      refine r_aload_n (pc := 185) (i := 0) C dX6_laysBack_185 rfl rfl ?_
      refine r_getP (pc := 186) C fd_X6_102 rfl dX6_laysBack_186 h (fun p31 h => ?_)
      refine r_bipush (pc := 189) (v := 10) C dX6_laysBack_189 (by decide) ?_
      refine r_iload_n (pc := 191) (i := 2) C dX6_laysBack_191 rfl rfl ?_
      refine r_imul (pc := 192) C dX6_laysBack_192 ?_
      refine r_iload_n (pc := 193) (i := 1) C dX6_laysBack_193 rfl rfl ?_
      refine r_iadd (pc := 194) C dX6_laysBack_194 ?_
      refine r_iald (pc := 195) C dX6_laysBack_195 h (fun v32 h => ?_)
      refine r_aload_n (pc := 196) (i := 0) C dX6_laysBack_196 rfl rfl ?_
      refine r_getP (pc := 197) C fd_X6_102 rfl dX6_laysBack_197 h (fun p33 h => ?_)
      refine r_bipush (pc := 200) (v := 10) C dX6_laysBack_200 (by decide) ?_
      refine r_iload_n (pc := 202) (i := 1) C dX6_laysBack_202 rfl rfl ?_
      refine r_imul (pc := 203) C dX6_laysBack_203 ?_
      refine r_iload_n (pc := 204) (i := 3) C dX6_laysBack_204 rfl rfl ?_
      refine r_iadd (pc := 205) C dX6_laysBack_205 ?_
      refine r_iald (pc := 206) C dX6_laysBack_206 h (fun v34 h => ?_)
      refine r_iadd (pc := 207) C dX6_laysBack_207 ?_
      refine r_callSI (pc := 208) (As := [.int v30, .int (v32 + v34)]) (st := [.int ((10 * x2) + z3), rv B p28]) C cs_X6_290_X6_min h (fun _ _ e => w_X6_min (Nat.le_refl 0) e) (Nat.le_trans (Nat.le_of_ble_eq_true rfl) hd) (Nat.le_of_ble_eq_true rfl) dX6_laysBack_208 (fun v36 σ35 h => ?_)
      refine r_iast (pc := 211) C dX6_laysBack_211 h (fun σ37 h => ?_)
      refine r_iinc (pc := 212) (i := 3) (v := (z3 + 1)) C dX6_laysBack_212 rfl rfl (by decide) ?_
      refine r_goto (pc := 215) (tgt := 110) C dX6_laysBack_215 (by decide) ?_
      refine r_pick (lv' := [(0, rv B a0), (1, .int x1), (2, .int x2), (3, .int (z3 + 1))]) [0, 1, 2, 3] rfl ?_
      exact ih _ _ h
theorem wl_X6_laysBack_102 {B : Nat} {G : XG} {d : Nat} {σf : MM} (hd : 2 ≤ d) (C : xC B G yX6_laysBack cX6_laysBack 4 none d 0 0) (E : xEnd B G none σf 0 0) {K : MM → Option (MM)} {F : Nat} {a0 : Nat} {x1 : Int32} (hK : ∀ (σ : MM), K σ = some σf → xV B G 0 0 σ 224 [(0, rv B a0), (1, .int x1)] []) : ∀ (f : Nat) (z2 : Int32) (σ : MM), l_X6_laysBack_102 K F a0 x1 f z2 σ = some σf → xV B G 0 0 σ 102 [(0, rv B a0), (1, .int x1), (2, .int z2)] [] := by
  intro f
  induction f with
  | zero =>
    intro z2 σ h
    have h : none = some σf := h
    cases h
  | succ f ih =>
    intro z2 σ h
    rw [l_X6_laysBack_102.eq_2] at h
    refine r_iload_n (pc := 102) (i := 2) C dX6_laysBack_102 rfl rfl ?_
    refine r_bipush (pc := 103) (v := 10) C dX6_laysBack_103 (by decide) ?_
    refine r_icmpge (pc := 105) (tgt := 224) C dX6_laysBack_105 (by decide) h (fun h => ?_) (fun h => ?_)
    · refine r_pick (lv' := [(0, rv B a0), (1, .int x1)]) [0, 1] rfl ?_
      exact hK _ h
    · refine r_iconst (pc := 108) (v := 0) C dX6_laysBack_108 (by decide) ?_
      refine r_istore_n (pc := 109) (i := 3) C dX6_laysBack_109 rfl (by decide) ?_
      refine r_pick (lv' := [(0, rv B a0), (1, .int x1), (2, .int z2), (3, .int 0)]) [0, 1, 2, 3] rfl ?_
      refine wl_X6_laysBack_110 hd C E (fun  σ38 h => ?_) _ _ _ h
      refine r_iinc (pc := 218) (i := 2) (v := (z2 + 1)) C dX6_laysBack_218 rfl rfl (by decide) ?_
      refine r_goto (pc := 221) (tgt := 102) C dX6_laysBack_221 (by decide) ?_
      refine r_pick (lv' := [(0, rv B a0), (1, .int x1), (2, .int (z2 + 1))]) [0, 1, 2] rfl ?_
      exact ih _ _ h
theorem wl_X6_laysBack_94 {B : Nat} {G : XG} {d : Nat} {σf : MM} (hd : 2 ≤ d) (C : xC B G yX6_laysBack cX6_laysBack 4 none d 0 0) (E : xEnd B G none σf 0 0) {K : MM → Option (MM)} {F : Nat} {a0 : Nat} (hK : ∀ (σ : MM), K σ = some σf → xV B G 0 0 σ 230 [] []) : ∀ (f : Nat) (z1 : Int32) (σ : MM), l_X6_laysBack_94 K F a0 f z1 σ = some σf → xV B G 0 0 σ 94 [(0, rv B a0), (1, .int z1)] [] := by
  intro f
  induction f with
  | zero =>
    intro z1 σ h
    have h : none = some σf := h
    cases h
  | succ f ih =>
    intro z1 σ h
    rw [l_X6_laysBack_94.eq_2] at h
    refine r_iload_n (pc := 94) (i := 1) C dX6_laysBack_94 rfl rfl ?_
    refine r_bipush (pc := 95) (v := 10) C dX6_laysBack_95 (by decide) ?_
    refine r_icmpge (pc := 97) (tgt := 230) C dX6_laysBack_97 (by decide) h (fun h => ?_) (fun h => ?_)
    · refine r_pick (lv' := []) [] rfl ?_
      exact hK _ h
    · refine r_iconst (pc := 100) (v := 0) C dX6_laysBack_100 (by decide) ?_
      refine r_istore_n (pc := 101) (i := 2) C dX6_laysBack_101 rfl (by decide) ?_
      refine r_pick (lv' := [(0, rv B a0), (1, .int z1), (2, .int 0)]) [0, 1, 2] rfl ?_
      refine wl_X6_laysBack_102 hd C E (fun  σ39 h => ?_) _ _ _ h
      refine r_iinc (pc := 224) (i := 1) (v := (z1 + 1)) C dX6_laysBack_224 rfl rfl (by decide) ?_
      refine r_goto (pc := 227) (tgt := 94) C dX6_laysBack_227 (by decide) ?_
      refine r_pick (lv' := [(0, rv B a0), (1, .int (z1 + 1))]) [0, 1] rfl ?_
      exact ih _ _ h
theorem w_X6_laysBack {B F : Nat} {d : Nat} {σ : MM} {a0 : Nat} {σf : MM} (hd : 2 ≤ d) (h : g_X6_laysBack F σ a0 = some σf) : xMA B yX6_laysBack cX6_laysBack 4 none d 0 0 [rv B a0] σ none σf := by
  refine xMA.of (by decide +kernel) (Nat.le_of_ble_eq_true rfl) (cat_rv cat_nil) (fun G C E => ?_)
  unfold g_X6_laysBack at h
  obtain ⟨-, h⟩ := r_ck h
  refine r_iconst (pc := 0) (v := 0) C dX6_laysBack_0 (by decide) ?_
  refine r_istore_n (pc := 1) (i := 1) C dX6_laysBack_1 rfl (by decide) ?_
  refine r_pick (lv' := [(0, rv B a0), (1, .int 0)]) [0, 1] rfl ?_
  refine wl_X6_laysBack_2 hd C E (fun  σ17 h => ?_) _ _ _ h
  refine r_iconst (pc := 92) (v := 0) C dX6_laysBack_92 (by decide) ?_
  refine r_istore_n (pc := 93) (i := 1) C dX6_laysBack_93 rfl (by decide) ?_
  refine r_pick (lv' := [(0, rv B a0), (1, .int 0)]) [0, 1] rfl ?_
  refine wl_X6_laysBack_94 hd C E (fun  σ40 h => ?_) _ _ _ h
  exact r_vret (pc := 230) C rfl dX6_laysBack_230 h E
theorem t_X6_laysBack {F : Nat} {σ : MM} {a0 : Nat} {r : MM} (h : g_X6_laysBack F σ a0 = some r) : mT σ a0 = (5, 62) := by
  unfold g_X6_laysBack at h
  exact (r_ck h).1
theorem yd_X6_laysBack : xYd yX6_laysBack 0 := ⟨by decide +kernel, by decide +kernel, by decide +kernel⟩
theorem cs_X6_413_X6_laysBack : xCV RX6 413 yX6_laysBack cX6_laysBack 4 none 5 62 0 := ⟨by decide, by decide, _, rfl, yd_X6_laysBack, Or.inl ⟨rfl, lw_V q1781 q1783 qs104 q122 q1784⟩⟩
def g_X6_back (F : Nat) (σ : MM) (a0 : Nat) (x1 : Int32) (x2 : Int32) : Option (Int32 × MM) := if mT σ a0 = (5, 62) then (bq (g_X6_isPerson F σ a0 x1) fun v2 σ1 => if v2 = 0 then (some ((-1), σ1)) else (bq (g_X6_in F σ1 x2 0 1) fun v4 σ3 => if v4 = 0 then (some ((-1), σ3)) else ((g_X6_laysBack F σ3 a0).bind fun σ5 => jn (fun (w7 : Int32) (σ6 : MM) => if w7 < 1000000 then (some (w7, σ6)) else (some ((-2), σ6))) (fun k8 => if x2 = 0 then ((gP σ5 a0 5 62 52).bind fun p11 => (aI σ5 p11 20 ((11 * x1))).bind fun v12 => k8 v12 σ5) else ((gP σ5 a0 5 62 53).bind fun p9 => (aI σ5 p9 20 ((11 * x1))).bind fun v10 => k8 v10 σ5))))) else none
theorem w_X6_back {B F : Nat} {d : Nat} {σ : MM} {a0 : Nat} {x1 : Int32} {x2 : Int32} {rf : Int32} {σf : MM} (hd : 3 ≤ d) (h : g_X6_back F σ a0 x1 x2 = some (rf, σf)) : xMA B yX6_back cX6_back 4 (some .int) d 0 0 [rv B a0, .int x1, .int x2] σ (some (.int rf)) σf := by
  refine xMA.of (by decide +kernel) (Nat.le_of_ble_eq_true rfl) (cat_rv (cat_int (cat_int cat_nil))) (fun G C E => ?_)
  unfold g_X6_back at h
  obtain ⟨-, h⟩ := r_ck h
  refine r_aload_n (pc := 0) (i := 0) C dX6_back_0 rfl rfl ?_
  refine r_iload_n (pc := 1) (i := 1) C dX6_back_1 rfl rfl ?_
  refine r_callVI (pc := 2) (As := [.int x1]) (st := []) C cs_X6_135_X6_isPerson h (fun _ _ e => w_X6_isPerson (Nat.le_refl 1) e) (fun _ _ e => t_X6_isPerson e) (Nat.le_trans (Nat.le_of_ble_eq_true rfl) hd) (Nat.le_of_ble_eq_true rfl) dX6_back_2 (fun v2 σ1 h => ?_)
  refine r_ifeq (pc := 5) (tgt := 17) C dX6_back_5 (by decide) h (fun h => ?_) (fun h => ?_)
  · refine r_iconst (pc := 17) (v := (-1)) C dX6_back_17 (by decide) ?_
    exact r_iret (pc := 18) C rfl dX6_back_18 h E
  · refine r_iload_n (pc := 8) (i := 2) C dX6_back_8 rfl rfl ?_
    refine r_iconst (pc := 9) (v := 0) C dX6_back_9 (by decide) ?_
    refine r_iconst (pc := 10) (v := 1) C dX6_back_10 (by decide) ?_
    refine r_callSI (pc := 11) (As := [.int x2, .int 0, .int 1]) (st := []) C cs_X6_123_X6_in h (fun _ _ e => w_X6_in (Nat.le_refl 0) e) (Nat.le_trans (Nat.le_of_ble_eq_true rfl) hd) (Nat.le_of_ble_eq_true rfl) dX6_back_11 (fun v4 σ3 h => ?_)
    refine r_ifne (pc := 14) (tgt := 19) C dX6_back_14 (by decide) h (fun h => ?_) (fun h => ?_)
    · refine r_aload_n (pc := 19) (i := 0) C dX6_back_19 rfl rfl ?_
      refine r_callVV (pc := 20) (As := []) (st := []) C cs_X6_413_X6_laysBack h (fun _ e => w_X6_laysBack (Nat.le_refl 2) e) (fun _ e => t_X6_laysBack e) (Nat.le_trans (Nat.le_of_ble_eq_true rfl) hd) (Nat.le_of_ble_eq_true rfl) dX6_back_20 (fun σ5 h => ?_)
      refine r_iload_n (pc := 23) (i := 2) C dX6_back_23 rfl rfl ?_
      refine r_jn (fun k9 => ∀ (w7 : Int32) (σ6 : MM), k9 w7 σ6 = some (rf, σf) → xV B G 0 0 σ6 48 [] [.int w7]) h (fun w7 σ6 h => ?_) (fun k8 hk8 h => ?_)
      · refine r_istore_n (pc := 48) (i := 3) C dX6_back_48 rfl (by decide) ?_
        refine r_iload_n (pc := 49) (i := 3) C dX6_back_49 rfl rfl ?_
        refine r_ldc_w (pc := 50) C q1785 dX6_back_50 ?_
        refine r_icmplt (pc := 53) (tgt := 61) C dX6_back_53 (by decide) h (fun h => ?_) (fun h => ?_)
        · refine r_iload_n (pc := 61) (i := 3) C dX6_back_61 rfl rfl ?_
          exact r_iret (pc := 62) C rfl dX6_back_62 h E
        · refine r_bipush (pc := 56) (v := (-2)) C dX6_back_56 (by decide) ?_
          refine r_goto (pc := 58) (tgt := 62) C dX6_back_58 (by decide) ?_
          exact r_iret (pc := 62) C rfl dX6_back_62 h E
      · refine r_ifne (pc := 24) (tgt := 39) C dX6_back_24 (by decide) h (fun h => ?_) (fun h => ?_)
        · refine r_aload_n (pc := 39) (i := 0) C dX6_back_39 rfl rfl ?_
          refine r_getP (pc := 40) C fd_X6_102 rfl dX6_back_40 h (fun p9 h => ?_)
          refine r_bipush (pc := 43) (v := 11) C dX6_back_43 (by decide) ?_
          refine r_iload_n (pc := 45) (i := 1) C dX6_back_45 rfl rfl ?_
          refine r_imul (pc := 46) C dX6_back_46 ?_
          refine r_iald (pc := 47) C dX6_back_47 h (fun v10 h => ?_)
          refine r_pick (lv' := []) [] rfl ?_
          exact hk8 _ _ h
        · refine r_aload_n (pc := 27) (i := 0) C dX6_back_27 rfl rfl ?_
          refine r_getP (pc := 28) C fd_X6_99 rfl dX6_back_28 h (fun p11 h => ?_)
          refine r_bipush (pc := 31) (v := 11) C dX6_back_31 (by decide) ?_
          refine r_iload_n (pc := 33) (i := 1) C dX6_back_33 rfl rfl ?_
          refine r_imul (pc := 34) C dX6_back_34 ?_
          refine r_iald (pc := 35) C dX6_back_35 h (fun v12 h => ?_)
          refine r_goto (pc := 36) (tgt := 48) C dX6_back_36 (by decide) ?_
          refine r_pick (lv' := []) [] rfl ?_
          exact hk8 _ _ h
    · refine r_iconst (pc := 17) (v := (-1)) C dX6_back_17 (by decide) ?_
      exact r_iret (pc := 18) C rfl dX6_back_18 h E
theorem t_X6_back {F : Nat} {σ : MM} {a0 : Nat} {x1 : Int32} {x2 : Int32} {r : Int32 × MM} (h : g_X6_back F σ a0 x1 x2 = some r) : mT σ a0 = (5, 62) := by
  unfold g_X6_back at h
  exact (r_ck h).1
def g_X6_setOffOf (F : Nat) (σ : MM) (a0 : Nat) (x1 : Int32) : Option (Int32 × MM) := if mT σ a0 = (5, 62) then (bq (g_X6_getsAll F σ a0 x1) fun v2 σ1 => bq (g_X6_owesAll F σ1 a0 x1) fun v4 σ3 => some ((v2 - v4), σ3)) else none
theorem w_X6_setOffOf {B F : Nat} {d : Nat} {σ : MM} {a0 : Nat} {x1 : Int32} {rf : Int32} {σf : MM} (hd : 2 ≤ d) (h : g_X6_setOffOf F σ a0 x1 = some (rf, σf)) : xMA B yX6_setOffOf cX6_setOffOf 2 (some .int) d 0 0 [rv B a0, .int x1] σ (some (.int rf)) σf := by
  refine xMA.of (by decide +kernel) (Nat.le_of_ble_eq_true rfl) (cat_rv (cat_int cat_nil)) (fun G C E => ?_)
  unfold g_X6_setOffOf at h
  obtain ⟨-, h⟩ := r_ck h
  refine r_aload_n (pc := 0) (i := 0) C dX6_setOffOf_0 rfl rfl ?_
  refine r_iload_n (pc := 1) (i := 1) C dX6_setOffOf_1 rfl rfl ?_
  refine r_callVI (pc := 2) (As := [.int x1]) (st := []) C cs_X6_349_X6_getsAll h (fun _ _ e => w_X6_getsAll (Nat.le_refl 1) e) (fun _ _ e => t_X6_getsAll e) (Nat.le_trans (Nat.le_of_ble_eq_true rfl) hd) (Nat.le_of_ble_eq_true rfl) dX6_setOffOf_2 (fun v2 σ1 h => ?_)
  refine r_aload_n (pc := 5) (i := 0) C dX6_setOffOf_5 rfl rfl ?_
  refine r_iload_n (pc := 6) (i := 1) C dX6_setOffOf_6 rfl rfl ?_
  refine r_callVI (pc := 7) (As := [.int x1]) (st := [.int v2]) C cs_X6_150_X6_owesAll h (fun _ _ e => w_X6_owesAll (Nat.le_refl 1) e) (fun _ _ e => t_X6_owesAll e) (Nat.le_trans (Nat.le_of_ble_eq_true rfl) hd) (Nat.le_of_ble_eq_true rfl) dX6_setOffOf_7 (fun v4 σ3 h => ?_)
  refine r_isub (pc := 10) C dX6_setOffOf_10 ?_
  exact r_iret (pc := 11) C rfl dX6_setOffOf_11 h E
theorem t_X6_setOffOf {F : Nat} {σ : MM} {a0 : Nat} {x1 : Int32} {r : Int32 × MM} (h : g_X6_setOffOf F σ a0 x1 = some r) : mT σ a0 = (5, 62) := by
  unfold g_X6_setOffOf at h
  exact (r_ck h).1
theorem fd_X6_416 : xFg RX6 416 5 62 58 := ⟨_, rfl, rfl, by decide, by decide, in_X6, Or.inl q1323⟩
theorem ft_X6_58 : xFt 5 58 .int false := ⟨_, rfl, by decide +kernel, rfl, rfl⟩
theorem yd_X6_setOffOf : xYd yX6_setOffOf 1 := ⟨by decide +kernel, by decide +kernel, by decide +kernel⟩
theorem cs_X6_419_X6_setOffOf : xCV RX6 419 yX6_setOffOf cX6_setOffOf 2 (some .int) 5 62 1 := ⟨by decide, by decide, _, rfl, yd_X6_setOffOf, Or.inl ⟨rfl, lw_V q1794 q1796 qs106 q122 q1797⟩⟩
theorem fd_X6_105 : xFg RX6 105 5 62 54 := ⟨_, rfl, rfl, by decide, by decide, in_X6, Or.inl q1319⟩
theorem ft_X6_54 : xFt 5 54 (.array .int) true := ⟨_, rfl, by decide +kernel, rfl, rfl⟩
theorem fd_X6_108 : xFg RX6 108 5 62 55 := ⟨_, rfl, rfl, by decide, by decide, in_X6, Or.inl q1320⟩
theorem ft_X6_55 : xFt 5 55 (.array .int) true := ⟨_, rfl, by decide +kernel, rfl, rfl⟩
def l_X6_laysLacks_24 (K : MM → Option (MM)) (F : Nat) (a0 : Nat) (x1 : Int32) (x2 : Int32) (x3 : Int32) : Nat → Int32 → MM → Option (MM)
  | 0, _, _ => none
  | f + 1, z4, σ => if z4 < x3 then ((gI σ a0 5 62 58).bind fun v4 => jn (fun  (σ5 : MM) => (gI σ5 a0 5 62 58).bind fun v7 => (pI σ5 a0 5 62 58 ((v7 + 1))).bind fun σ8 => l_X6_laysLacks_24 K F a0 x1 x2 x3 f ((z4 + 1)) σ8) (fun k6 => if v4 < 6 then ((gP σ a0 5 62 54).bind fun p9 => (gI σ a0 5 62 58).bind fun v10 => (sI σ p9 v10 x2).bind fun σ11 => k6 σ11) else (k6 σ))) else (K σ)
def l_X6_laysLacks_68 (K : Int32 → MM → Option (MM)) (F : Nat) (a0 : Nat) (x2 : Int32) (x3 : Int32) : Nat → Int32 → Int32 → MM → Option (MM)
  | 0, _, _, _ => none
  | f + 1, z1, z4, σ => if z4 < (-x3) then (jn (fun  (σ13 : MM) => l_X6_laysLacks_68 K F a0 x2 x3 f ((z1 + 1)) ((z4 + 1)) σ13) (fun k14 => if z1 < 6 then ((gP σ a0 5 62 55).bind fun p15 => (sI σ p15 z1 x2).bind fun σ16 => k14 σ16) else (k14 σ))) else (K z1 σ)
def l_X6_laysLacks_9 (K : MM → Option (MM)) (F : Nat) (a0 : Nat) : Nat → Int32 → Int32 → MM → Option (MM)
  | 0, _, _, _ => none
  | f + 1, z1, z2, σ => if z2 < 10 then (bq (g_X6_setOffOf F σ a0 z2) fun v3 σ2 => l_X6_laysLacks_24 (fun (σ12 : MM) => l_X6_laysLacks_68 (fun (r1_18 : Int32) (σ17 : MM) => l_X6_laysLacks_9 K F a0 f r1_18 ((z2 + 1)) σ17) F a0 z2 v3 F z1 0 σ12) F a0 z1 z2 v3 F 0 σ2) else (K σ)
def g_X6_laysLacks (F : Nat) (σ : MM) (a0 : Nat) : Option (MM) := if mT σ a0 = (5, 62) then ((pI σ a0 5 62 58 0).bind fun σ1 => l_X6_laysLacks_9 (fun (σ19 : MM) => some σ19) F a0 F 0 0 σ1) else none
theorem wl_X6_laysLacks_24 {B : Nat} {G : XG} {d : Nat} {σf : MM} (hd : 3 ≤ d) (C : xC B G yX6_laysLacks cX6_laysLacks 5 none d 0 0) (E : xEnd B G none σf 0 0) {K : MM → Option (MM)} {F : Nat} {a0 : Nat} {x1 : Int32} {x2 : Int32} {x3 : Int32} (hK : ∀ (σ : MM), K σ = some σf → xV B G 0 0 σ 65 [(0, rv B a0), (1, .int x1), (2, .int x2), (3, .int x3)] []) : ∀ (f : Nat) (z4 : Int32) (σ : MM), l_X6_laysLacks_24 K F a0 x1 x2 x3 f z4 σ = some σf → xV B G 0 0 σ 24 [(0, rv B a0), (1, .int x1), (2, .int x2), (3, .int x3), (4, .int z4)] [] := by
  intro f
  induction f with
  | zero =>
    intro z4 σ h
    have h : none = some σf := h
    cases h
  | succ f ih =>
    intro z4 σ h
    rw [l_X6_laysLacks_24.eq_2] at h
    refine r_iload (pc := 24) (i := 4) C dX6_laysLacks_24 rfl ?_
    refine r_iload_n (pc := 26) (i := 3) C dX6_laysLacks_26 rfl rfl ?_
    refine r_icmpge (pc := 27) (tgt := 65) C dX6_laysLacks_27 (by decide) h (fun h => ?_) (fun h => ?_)
    · refine r_pick (lv' := [(0, rv B a0), (1, .int x1), (2, .int x2), (3, .int x3)]) [0, 1, 2, 3] rfl ?_
      exact hK _ h
    · refine r_aload_n (pc := 30) (i := 0) C dX6_laysLacks_30 rfl rfl ?_
      refine r_getI (pc := 31) C fd_X6_416 rfl dX6_laysLacks_31 h (fun v4 h => ?_)
      refine r_bipush (pc := 34) (v := 6) C dX6_laysLacks_34 (by decide) ?_
      refine r_jn (fun k9 => ∀  (σ5 : MM), k9 σ5 = some σf → xV B G 0 0 σ5 49 [(0, rv B a0), (1, .int x1), (2, .int x2), (3, .int x3), (4, .int z4)] []) h (fun  σ5 h => ?_) (fun k6 hk6 h => ?_)
      · refine r_aload_n (pc := 49) (i := 0) C dX6_laysLacks_49 rfl rfl ?_
        refine r_aload_n (pc := 50) (i := 0) C dX6_laysLacks_50 rfl rfl ?_
        refine r_getI (pc := 51) C fd_X6_416 rfl dX6_laysLacks_51 h (fun v7 h => ?_)
        refine r_iconst (pc := 54) (v := 1) C dX6_laysLacks_54 (by decide) ?_
        refine r_iadd (pc := 55) C dX6_laysLacks_55 ?_
        refine r_putI (pc := 56) C fd_X6_416 ft_X6_58 dX6_laysLacks_56 h (fun σ8 h => ?_)
        refine r_iinc (pc := 59) (i := 4) (v := (z4 + 1)) C dX6_laysLacks_59 rfl rfl (by decide) ?_
        refine r_goto (pc := 62) (tgt := 24) C dX6_laysLacks_62 (by decide) ?_
        refine r_pick (lv' := [(0, rv B a0), (1, .int x1), (2, .int x2), (3, .int x3), (4, .int (z4 + 1))]) [0, 1, 2, 3, 4] rfl ?_
        exact ih _ _ h
      · refine r_icmpge (pc := 36) (tgt := 49) C dX6_laysLacks_36 (by decide) h (fun h => ?_) (fun h => ?_)
        · refine r_pick (lv' := [(0, rv B a0), (1, .int x1), (2, .int x2), (3, .int x3), (4, .int z4)]) [0, 1, 2, 3, 4] rfl ?_
          exact hk6 _ h
        · refine r_aload_n (pc := 39) (i := 0) C dX6_laysLacks_39 rfl rfl ?_
          refine r_getP (pc := 40) C fd_X6_105 rfl dX6_laysLacks_40 h (fun p9 h => ?_)
          refine r_aload_n (pc := 43) (i := 0) C dX6_laysLacks_43 rfl rfl ?_
          refine r_getI (pc := 44) C fd_X6_416 rfl dX6_laysLacks_44 h (fun v10 h => ?_)
          refine r_iload_n (pc := 47) (i := 2) C dX6_laysLacks_47 rfl rfl ?_
          refine r_iast (pc := 48) C dX6_laysLacks_48 h (fun σ11 h => ?_)
          refine r_pick (lv' := [(0, rv B a0), (1, .int x1), (2, .int x2), (3, .int x3), (4, .int z4)]) [0, 1, 2, 3, 4] rfl ?_
          exact hk6 _ h
theorem wl_X6_laysLacks_68 {B : Nat} {G : XG} {d : Nat} {σf : MM} (hd : 3 ≤ d) (C : xC B G yX6_laysLacks cX6_laysLacks 5 none d 0 0) (E : xEnd B G none σf 0 0) {K : Int32 → MM → Option (MM)} {F : Nat} {a0 : Nat} {x2 : Int32} {x3 : Int32} (hK : ∀ (q1 : Int32) (σ : MM), K q1 σ = some σf → xV B G 0 0 σ 98 [(0, rv B a0), (1, .int q1), (2, .int x2)] []) : ∀ (f : Nat) (z1 : Int32) (z4 : Int32) (σ : MM), l_X6_laysLacks_68 K F a0 x2 x3 f z1 z4 σ = some σf → xV B G 0 0 σ 68 [(0, rv B a0), (1, .int z1), (2, .int x2), (3, .int x3), (4, .int z4)] [] := by
  intro f
  induction f with
  | zero =>
    intro z1 z4 σ h
    have h : none = some σf := h
    cases h
  | succ f ih =>
    intro z1 z4 σ h
    rw [l_X6_laysLacks_68.eq_2] at h
    refine r_iload (pc := 68) (i := 4) C dX6_laysLacks_68 rfl ?_
    refine r_iload_n (pc := 70) (i := 3) C dX6_laysLacks_70 rfl rfl ?_
    refine r_ineg (pc := 71) C dX6_laysLacks_71 ?_
    refine r_icmpge (pc := 72) (tgt := 98) C dX6_laysLacks_72 (by decide) h (fun h => ?_) (fun h => ?_)
    · refine r_pick (lv' := [(0, rv B a0), (1, .int z1), (2, .int x2)]) [0, 1, 2] rfl ?_
      exact hK _ _ h
    · refine r_iload_n (pc := 75) (i := 1) C dX6_laysLacks_75 rfl rfl ?_
      refine r_bipush (pc := 76) (v := 6) C dX6_laysLacks_76 (by decide) ?_
      refine r_jn (fun k9 => ∀  (σ13 : MM), k9 σ13 = some σf → xV B G 0 0 σ13 88 [(0, rv B a0), (1, .int z1), (2, .int x2), (3, .int x3), (4, .int z4)] []) h (fun  σ13 h => ?_) (fun k14 hk14 h => ?_)
      · refine r_iload_n (pc := 88) (i := 1) C dX6_laysLacks_88 rfl rfl ?_
        refine r_iconst (pc := 89) (v := 1) C dX6_laysLacks_89 (by decide) ?_
        refine r_iadd (pc := 90) C dX6_laysLacks_90 ?_
        refine r_istore_n (pc := 91) (i := 1) C dX6_laysLacks_91 rfl (by decide) ?_
        refine r_iinc (pc := 92) (i := 4) (v := (z4 + 1)) C dX6_laysLacks_92 rfl rfl (by decide) ?_
        refine r_goto (pc := 95) (tgt := 68) C dX6_laysLacks_95 (by decide) ?_
        refine r_pick (lv' := [(0, rv B a0), (1, .int (z1 + 1)), (2, .int x2), (3, .int x3), (4, .int (z4 + 1))]) [0, 1, 2, 3, 4] rfl ?_
        exact ih _ _ _ h
      · refine r_icmpge (pc := 78) (tgt := 88) C dX6_laysLacks_78 (by decide) h (fun h => ?_) (fun h => ?_)
        · refine r_pick (lv' := [(0, rv B a0), (1, .int z1), (2, .int x2), (3, .int x3), (4, .int z4)]) [0, 1, 2, 3, 4] rfl ?_
          exact hk14 _ h
        · refine r_aload_n (pc := 81) (i := 0) C dX6_laysLacks_81 rfl rfl ?_
          refine r_getP (pc := 82) C fd_X6_108 rfl dX6_laysLacks_82 h (fun p15 h => ?_)
          refine r_iload_n (pc := 85) (i := 1) C dX6_laysLacks_85 rfl rfl ?_
          refine r_iload_n (pc := 86) (i := 2) C dX6_laysLacks_86 rfl rfl ?_
          refine r_iast (pc := 87) C dX6_laysLacks_87 h (fun σ16 h => ?_)
          refine r_pick (lv' := [(0, rv B a0), (1, .int z1), (2, .int x2), (3, .int x3), (4, .int z4)]) [0, 1, 2, 3, 4] rfl ?_
          exact hk14 _ h
theorem wl_X6_laysLacks_9 {B : Nat} {G : XG} {d : Nat} {σf : MM} (hd : 3 ≤ d) (C : xC B G yX6_laysLacks cX6_laysLacks 5 none d 0 0) (E : xEnd B G none σf 0 0) {K : MM → Option (MM)} {F : Nat} {a0 : Nat} (hK : ∀ (σ : MM), K σ = some σf → xV B G 0 0 σ 104 [] []) : ∀ (f : Nat) (z1 : Int32) (z2 : Int32) (σ : MM), l_X6_laysLacks_9 K F a0 f z1 z2 σ = some σf → xV B G 0 0 σ 9 [(0, rv B a0), (1, .int z1), (2, .int z2)] [] := by
  intro f
  induction f with
  | zero =>
    intro z1 z2 σ h
    have h : none = some σf := h
    cases h
  | succ f ih =>
    intro z1 z2 σ h
    rw [l_X6_laysLacks_9.eq_2] at h
    refine r_iload_n (pc := 9) (i := 2) C dX6_laysLacks_9 rfl rfl ?_
    refine r_bipush (pc := 10) (v := 10) C dX6_laysLacks_10 (by decide) ?_
    refine r_icmpge (pc := 12) (tgt := 104) C dX6_laysLacks_12 (by decide) h (fun h => ?_) (fun h => ?_)
    · refine r_pick (lv' := []) [] rfl ?_
      exact hK _ h
    · refine r_aload_n (pc := 15) (i := 0) C dX6_laysLacks_15 rfl rfl ?_
      refine r_iload_n (pc := 16) (i := 2) C dX6_laysLacks_16 rfl rfl ?_
      refine r_callVI (pc := 17) (As := [.int z2]) (st := []) C cs_X6_419_X6_setOffOf h (fun _ _ e => w_X6_setOffOf (Nat.le_refl 2) e) (fun _ _ e => t_X6_setOffOf e) (Nat.le_trans (Nat.le_of_ble_eq_true rfl) hd) (Nat.le_of_ble_eq_true rfl) dX6_laysLacks_17 (fun v3 σ2 h => ?_)
      refine r_istore_n (pc := 20) (i := 3) C dX6_laysLacks_20 rfl (by decide) ?_
      refine r_iconst (pc := 21) (v := 0) C dX6_laysLacks_21 (by decide) ?_
      refine r_istore (pc := 22) (i := 4) C dX6_laysLacks_22 (by decide) ?_
      refine r_pick (lv' := [(0, rv B a0), (1, .int z1), (2, .int z2), (3, .int v3), (4, .int 0)]) [0, 1, 2, 3, 4] rfl ?_
      refine wl_X6_laysLacks_24 hd C E (fun  σ12 h => ?_) _ _ _ h
      refine r_iconst (pc := 65) (v := 0) C dX6_laysLacks_65 (by decide) ?_
      refine r_istore (pc := 66) (i := 4) C dX6_laysLacks_66 (by decide) ?_
      refine r_pick (lv' := [(0, rv B a0), (1, .int z1), (2, .int z2), (3, .int v3), (4, .int 0)]) [0, 1, 2, 3, 4] rfl ?_
      refine wl_X6_laysLacks_68 hd C E (fun r1_18 σ17 h => ?_) _ _ _ _ h
      refine r_iinc (pc := 98) (i := 2) (v := (z2 + 1)) C dX6_laysLacks_98 rfl rfl (by decide) ?_
      refine r_goto (pc := 101) (tgt := 9) C dX6_laysLacks_101 (by decide) ?_
      refine r_pick (lv' := [(0, rv B a0), (1, .int r1_18), (2, .int (z2 + 1))]) [0, 1, 2] rfl ?_
      exact ih _ _ _ h
theorem w_X6_laysLacks {B F : Nat} {d : Nat} {σ : MM} {a0 : Nat} {σf : MM} (hd : 3 ≤ d) (h : g_X6_laysLacks F σ a0 = some σf) : xMA B yX6_laysLacks cX6_laysLacks 5 none d 0 0 [rv B a0] σ none σf := by
  refine xMA.of (by decide +kernel) (Nat.le_of_ble_eq_true rfl) (cat_rv cat_nil) (fun G C E => ?_)
  unfold g_X6_laysLacks at h
  obtain ⟨-, h⟩ := r_ck h
  refine r_aload_n (pc := 0) (i := 0) C dX6_laysLacks_0 rfl rfl ?_
  refine r_iconst (pc := 1) (v := 0) C dX6_laysLacks_1 (by decide) ?_
  refine r_putI (pc := 2) C fd_X6_416 ft_X6_58 dX6_laysLacks_2 h (fun σ1 h => ?_)
  refine r_iconst (pc := 5) (v := 0) C dX6_laysLacks_5 (by decide) ?_
  refine r_istore_n (pc := 6) (i := 1) C dX6_laysLacks_6 rfl (by decide) ?_
  refine r_iconst (pc := 7) (v := 0) C dX6_laysLacks_7 (by decide) ?_
  refine r_istore_n (pc := 8) (i := 2) C dX6_laysLacks_8 rfl (by decide) ?_
  refine r_pick (lv' := [(0, rv B a0), (1, .int 0), (2, .int 0)]) [0, 1, 2] rfl ?_
  refine wl_X6_laysLacks_9 hd C E (fun  σ19 h => ?_) _ _ _ _ h
  exact r_vret (pc := 104) C rfl dX6_laysLacks_104 h E
theorem t_X6_laysLacks {F : Nat} {σ : MM} {a0 : Nat} {r : MM} (h : g_X6_laysLacks F σ a0 = some r) : mT σ a0 = (5, 62) := by
  unfold g_X6_laysLacks at h
  exact (r_ck h).1
theorem fd_X6_111 : xFg RX6 111 5 62 56 := ⟨_, rfl, rfl, by decide, by decide, in_X6, Or.inl q1321⟩
theorem ft_X6_56 : xFt 5 56 (.array .int) true := ⟨_, rfl, by decide +kernel, rfl, rfl⟩
def l_X6_readsRow_10 (K : MM → Option (Int32 × MM)) (F : Nat) (a0 : Nat) (x2 : Int32) : Nat → Int32 → Int32 → Int32 → MM → Option (Int32 × MM)
  | 0, _, _, _, _ => none
  | f + 1, z3, z4, z5, σ => if z5 < 0 then (K σ) else ((gP σ a0 5 62 56).bind fun p1 => (rm_ z3 x2).bind fun v2 => (sI σ p1 z5 v2).bind fun σ3 => (dv z3 x2).bind fun v4 => (gP σ3 a0 5 62 56).bind fun p5 => (aI σ3 p5 20 z5).bind fun v6 => bq (g_X6_has F σ3 z4 v6) fun v8 σ7 => if v8 = 0 then ((gP σ7 a0 5 62 56).bind fun p9 => (aI σ7 p9 20 z5).bind fun v10 => l_X6_readsRow_10 K F a0 x2 f v4 ((z4 ||| ((1 : Int32) <<< (v10 &&& 31)))) ((z5 + (-1))) σ7) else (some (0, σ7)))
def g_X6_readsRow (F : Nat) (σ : MM) (a0 : Nat) (x1 : Int32) (x2 : Int32) : Option (Int32 × MM) := if mT σ a0 = (5, 62) then (l_X6_readsRow_10 (fun (σ11 : MM) => some (1, σ11)) F a0 x2 F x1 0 ((x2 - 1)) σ) else none
theorem wl_X6_readsRow_10 {B : Nat} {G : XG} {d : Nat} {rf : Int32} {σf : MM} (hd : 1 ≤ d) (C : xC B G yX6_readsRow cX6_readsRow 6 (some .boolean) d 0 0) (E : xEnd B G (some (.int rf)) σf 0 0) {K : MM → Option (Int32 × MM)} {F : Nat} {a0 : Nat} {x2 : Int32} (hK : ∀ (σ : MM), K σ = some (rf, σf) → xV B G 0 0 σ 66 [] []) : ∀ (f : Nat) (z3 : Int32) (z4 : Int32) (z5 : Int32) (σ : MM), l_X6_readsRow_10 K F a0 x2 f z3 z4 z5 σ = some (rf, σf) → xV B G 0 0 σ 10 [(0, rv B a0), (2, .int x2), (3, .int z3), (4, .int z4), (5, .int z5)] [] := by
  intro f
  induction f with
  | zero =>
    intro z3 z4 z5 σ h
    have h : none = some (rf, σf) := h
    cases h
  | succ f ih =>
    intro z3 z4 z5 σ h
    rw [l_X6_readsRow_10.eq_2] at h
    refine r_iload (pc := 10) (i := 5) C dX6_readsRow_10 rfl ?_
    refine r_iflt (pc := 12) (tgt := 66) C dX6_readsRow_12 (by decide) h (fun h => ?_) (fun h => ?_)
    · refine r_pick (lv' := []) [] rfl ?_
      exact hK _ h
    · refine r_aload_n (pc := 15) (i := 0) C dX6_readsRow_15 rfl rfl ?_
      refine r_getP (pc := 16) C fd_X6_111 rfl dX6_readsRow_16 h (fun p1 h => ?_)
      refine r_iload (pc := 19) (i := 5) C dX6_readsRow_19 rfl ?_
      refine r_iload_n (pc := 21) (i := 3) C dX6_readsRow_21 rfl rfl ?_
      refine r_iload_n (pc := 22) (i := 2) C dX6_readsRow_22 rfl rfl ?_
      refine r_irem (pc := 23) C dX6_readsRow_23 h (fun v2 h => ?_)
      refine r_iast (pc := 24) C dX6_readsRow_24 h (fun σ3 h => ?_)
      refine r_iload_n (pc := 25) (i := 3) C dX6_readsRow_25 rfl rfl ?_
      refine r_iload_n (pc := 26) (i := 2) C dX6_readsRow_26 rfl rfl ?_
      refine r_idiv (pc := 27) C dX6_readsRow_27 h (fun v4 h => ?_)
      refine r_istore_n (pc := 28) (i := 3) C dX6_readsRow_28 rfl (by decide) ?_
      refine r_iload (pc := 29) (i := 4) C dX6_readsRow_29 rfl ?_
      refine r_aload_n (pc := 31) (i := 0) C dX6_readsRow_31 rfl rfl ?_
      refine r_getP (pc := 32) C fd_X6_111 rfl dX6_readsRow_32 h (fun p5 h => ?_)
      refine r_iload (pc := 35) (i := 5) C dX6_readsRow_35 rfl ?_
      refine r_iald (pc := 37) C dX6_readsRow_37 h (fun v6 h => ?_)
      refine r_callSI (pc := 38) (As := [.int z4, .int v6]) (st := []) C cs_X6_131_X6_has h (fun _ _ e => w_X6_has (Nat.le_refl 0) e) (Nat.le_trans (Nat.le_of_ble_eq_true rfl) hd) (Nat.le_of_ble_eq_true rfl) dX6_readsRow_38 (fun v8 σ7 h => ?_)
      refine r_ifeq (pc := 41) (tgt := 46) C dX6_readsRow_41 (by decide) h (fun h => ?_) (fun h => ?_)
      · refine r_iload (pc := 46) (i := 4) C dX6_readsRow_46 rfl ?_
        refine r_iconst (pc := 48) (v := 1) C dX6_readsRow_48 (by decide) ?_
        refine r_aload_n (pc := 49) (i := 0) C dX6_readsRow_49 rfl rfl ?_
        refine r_getP (pc := 50) C fd_X6_111 rfl dX6_readsRow_50 h (fun p9 h => ?_)
        refine r_iload (pc := 53) (i := 5) C dX6_readsRow_53 rfl ?_
        refine r_iald (pc := 55) C dX6_readsRow_55 h (fun v10 h => ?_)
        refine r_ishl (pc := 56) C dX6_readsRow_56 ?_
        refine r_ior (pc := 57) C dX6_readsRow_57 ?_
        refine r_istore (pc := 58) (i := 4) C dX6_readsRow_58 (by decide) ?_
        refine r_iinc (pc := 60) (i := 5) (v := (z5 + (-1))) C dX6_readsRow_60 rfl rfl (by decide) ?_
        refine r_goto (pc := 63) (tgt := 10) C dX6_readsRow_63 (by decide) ?_
        refine r_pick (lv' := [(0, rv B a0), (2, .int x2), (3, .int v4), (4, .int (z4 ||| ((1 : Int32) <<< (v10 &&& 31)))), (5, .int (z5 + (-1)))]) [0, 2, 3, 4, 5] rfl ?_
        exact ih _ _ _ _ h
      · refine r_iconst (pc := 44) (v := 0) C dX6_readsRow_44 (by decide) ?_
        exact r_zretL (pc := 45) C rfl dX6_readsRow_45 (Or.inl rfl) h E
theorem w_X6_readsRow {B F : Nat} {d : Nat} {σ : MM} {a0 : Nat} {x1 : Int32} {x2 : Int32} {rf : Int32} {σf : MM} (hd : 1 ≤ d) (h : g_X6_readsRow F σ a0 x1 x2 = some (rf, σf)) : xMA B yX6_readsRow cX6_readsRow 6 (some .boolean) d 0 0 [rv B a0, .int x1, .int x2] σ (some (.int rf)) σf := by
  refine xMA.of (by decide +kernel) (Nat.le_of_ble_eq_true rfl) (cat_rv (cat_int (cat_int cat_nil))) (fun G C E => ?_)
  unfold g_X6_readsRow at h
  obtain ⟨-, h⟩ := r_ck h
  refine r_iload_n (pc := 0) (i := 1) C dX6_readsRow_0 rfl rfl ?_
  refine r_istore_n (pc := 1) (i := 3) C dX6_readsRow_1 rfl (by decide) ?_
  refine r_iconst (pc := 2) (v := 0) C dX6_readsRow_2 (by decide) ?_
  refine r_istore (pc := 3) (i := 4) C dX6_readsRow_3 (by decide) ?_
  refine r_iload_n (pc := 5) (i := 2) C dX6_readsRow_5 rfl rfl ?_
  refine r_iconst (pc := 6) (v := 1) C dX6_readsRow_6 (by decide) ?_
  refine r_isub (pc := 7) C dX6_readsRow_7 ?_
  refine r_istore (pc := 8) (i := 5) C dX6_readsRow_8 (by decide) ?_
  refine r_pick (lv' := [(0, rv B a0), (2, .int x2), (3, .int x1), (4, .int 0), (5, .int (x2 - 1))]) [0, 2, 3, 4, 5] rfl ?_
  refine wl_X6_readsRow_10 hd C E (fun  σ11 h => ?_) _ _ _ _ _ h
  refine r_iconst (pc := 66) (v := 1) C dX6_readsRow_66 (by decide) ?_
  exact r_zretL (pc := 67) C rfl dX6_readsRow_67 (Or.inr rfl) h E
theorem t_X6_readsRow {F : Nat} {σ : MM} {a0 : Nat} {x1 : Int32} {x2 : Int32} {r : Int32 × MM} (h : g_X6_readsRow F σ a0 x1 x2 = some r) : mT σ a0 = (5, 62) := by
  unfold g_X6_readsRow at h
  exact (r_ck h).1
def l_X6_hoursOfRow_4 (K : Int32 → MM → Option (Int32 × MM)) (F : Nat) (a0 : Nat) (x1 : Int32) : Nat → Int32 → Int32 → MM → Option (Int32 × MM)
  | 0, _, _, _ => none
  | f + 1, z2, z3, σ => if z3 < x1 then ((gP σ a0 5 62 54).bind fun p1 => (aI σ p1 20 z3).bind fun v2 => (gP σ a0 5 62 55).bind fun p3 => (gP σ a0 5 62 56).bind fun p4 => (aI σ p4 20 z3).bind fun v5 => (aI σ p3 20 v5).bind fun v6 => bq (g_X6_wayOf F σ a0 v2 v6) fun v8 σ7 => l_X6_hoursOfRow_4 K F a0 x1 f ((z2 + v8)) ((z3 + 1)) σ7) else (K z2 σ)
def g_X6_hoursOfRow (F : Nat) (σ : MM) (a0 : Nat) (x1 : Int32) : Option (Int32 × MM) := if mT σ a0 = (5, 62) then (l_X6_hoursOfRow_4 (fun (r2_10 : Int32) (σ9 : MM) => some (r2_10, σ9)) F a0 x1 F 0 0 σ) else none
theorem wl_X6_hoursOfRow_4 {B : Nat} {G : XG} {d : Nat} {rf : Int32} {σf : MM} (hd : 2 ≤ d) (C : xC B G yX6_hoursOfRow cX6_hoursOfRow 4 (some .int) d 0 0) (E : xEnd B G (some (.int rf)) σf 0 0) {K : Int32 → MM → Option (Int32 × MM)} {F : Nat} {a0 : Nat} {x1 : Int32} (hK : ∀ (q2 : Int32) (σ : MM), K q2 σ = some (rf, σf) → xV B G 0 0 σ 39 [(2, .int q2)] []) : ∀ (f : Nat) (z2 : Int32) (z3 : Int32) (σ : MM), l_X6_hoursOfRow_4 K F a0 x1 f z2 z3 σ = some (rf, σf) → xV B G 0 0 σ 4 [(0, rv B a0), (1, .int x1), (2, .int z2), (3, .int z3)] [] := by
  intro f
  induction f with
  | zero =>
    intro z2 z3 σ h
    have h : none = some (rf, σf) := h
    cases h
  | succ f ih =>
    intro z2 z3 σ h
    rw [l_X6_hoursOfRow_4.eq_2] at h
    refine r_iload_n (pc := 4) (i := 3) C dX6_hoursOfRow_4 rfl rfl ?_
    refine r_iload_n (pc := 5) (i := 1) C dX6_hoursOfRow_5 rfl rfl ?_
    refine r_icmpge (pc := 6) (tgt := 39) C dX6_hoursOfRow_6 (by decide) h (fun h => ?_) (fun h => ?_)
    · refine r_pick (lv' := [(2, .int z2)]) [2] rfl ?_
      exact hK _ _ h
    · refine r_iload_n (pc := 9) (i := 2) C dX6_hoursOfRow_9 rfl rfl ?_
      refine r_aload_n (pc := 10) (i := 0) C dX6_hoursOfRow_10 rfl rfl ?_
      refine r_aload_n (pc := 11) (i := 0) C dX6_hoursOfRow_11 rfl rfl ?_
      refine r_getP (pc := 12) C fd_X6_105 rfl dX6_hoursOfRow_12 h (fun p1 h => ?_)
      refine r_iload_n (pc := 15) (i := 3) C dX6_hoursOfRow_15 rfl rfl ?_
      refine r_iald (pc := 16) C dX6_hoursOfRow_16 h (fun v2 h => ?_)
      refine r_aload_n (pc := 17) (i := 0) C dX6_hoursOfRow_17 rfl rfl ?_
      refine r_getP (pc := 18) C fd_X6_108 rfl dX6_hoursOfRow_18 h (fun p3 h => ?_)
      refine r_aload_n (pc := 21) (i := 0) C dX6_hoursOfRow_21 rfl rfl ?_
      refine r_getP (pc := 22) C fd_X6_111 rfl dX6_hoursOfRow_22 h (fun p4 h => ?_)
      refine r_iload_n (pc := 25) (i := 3) C dX6_hoursOfRow_25 rfl rfl ?_
      refine r_iald (pc := 26) C dX6_hoursOfRow_26 h (fun v5 h => ?_)
      refine r_iald (pc := 27) C dX6_hoursOfRow_27 h (fun v6 h => ?_)
      refine r_callVI (pc := 28) (As := [.int v2, .int v6]) (st := [.int z2]) C cs_X6_268_X6_wayOf h (fun _ _ e => w_X6_wayOf (Nat.le_refl 1) e) (fun _ _ e => t_X6_wayOf e) (Nat.le_trans (Nat.le_of_ble_eq_true rfl) hd) (Nat.le_of_ble_eq_true rfl) dX6_hoursOfRow_28 (fun v8 σ7 h => ?_)
      refine r_iadd (pc := 31) C dX6_hoursOfRow_31 ?_
      refine r_istore_n (pc := 32) (i := 2) C dX6_hoursOfRow_32 rfl (by decide) ?_
      refine r_iinc (pc := 33) (i := 3) (v := (z3 + 1)) C dX6_hoursOfRow_33 rfl rfl (by decide) ?_
      refine r_goto (pc := 36) (tgt := 4) C dX6_hoursOfRow_36 (by decide) ?_
      refine r_pick (lv' := [(0, rv B a0), (1, .int x1), (2, .int (z2 + v8)), (3, .int (z3 + 1))]) [0, 1, 2, 3] rfl ?_
      exact ih _ _ _ h
theorem w_X6_hoursOfRow {B F : Nat} {d : Nat} {σ : MM} {a0 : Nat} {x1 : Int32} {rf : Int32} {σf : MM} (hd : 2 ≤ d) (h : g_X6_hoursOfRow F σ a0 x1 = some (rf, σf)) : xMA B yX6_hoursOfRow cX6_hoursOfRow 4 (some .int) d 0 0 [rv B a0, .int x1] σ (some (.int rf)) σf := by
  refine xMA.of (by decide +kernel) (Nat.le_of_ble_eq_true rfl) (cat_rv (cat_int cat_nil)) (fun G C E => ?_)
  unfold g_X6_hoursOfRow at h
  obtain ⟨-, h⟩ := r_ck h
  refine r_iconst (pc := 0) (v := 0) C dX6_hoursOfRow_0 (by decide) ?_
  refine r_istore_n (pc := 1) (i := 2) C dX6_hoursOfRow_1 rfl (by decide) ?_
  refine r_iconst (pc := 2) (v := 0) C dX6_hoursOfRow_2 (by decide) ?_
  refine r_istore_n (pc := 3) (i := 3) C dX6_hoursOfRow_3 rfl (by decide) ?_
  refine r_pick (lv' := [(0, rv B a0), (1, .int x1), (2, .int 0), (3, .int 0)]) [0, 1, 2, 3] rfl ?_
  refine wl_X6_hoursOfRow_4 hd C E (fun r2_10 σ9 h => ?_) _ _ _ _ h
  refine r_iload_n (pc := 39) (i := 2) C dX6_hoursOfRow_39 rfl rfl ?_
  exact r_iret (pc := 40) C rfl dX6_hoursOfRow_40 h E
theorem t_X6_hoursOfRow {F : Nat} {σ : MM} {a0 : Nat} {x1 : Int32} {r : Int32 × MM} (h : g_X6_hoursOfRow F σ a0 x1 = some r) : mT σ a0 = (5, 62) := by
  unfold g_X6_hoursOfRow at h
  exact (r_ck h).1
theorem yd_X6_laysLacks : xYd yX6_laysLacks 0 := ⟨by decide +kernel, by decide +kernel, by decide +kernel⟩
theorem cs_X6_422_X6_laysLacks : xCV RX6 422 yX6_laysLacks cX6_laysLacks 5 none 5 62 0 := ⟨by decide, by decide, _, rfl, yd_X6_laysLacks, Or.inl ⟨rfl, lw_V q1790 q1792 qs105 q122 q1793⟩⟩
theorem yd_X6_readsRow : xYd yX6_readsRow 2 := ⟨by decide +kernel, by decide +kernel, by decide +kernel⟩
theorem cs_X6_425_X6_readsRow : xCV RX6 425 yX6_readsRow cX6_readsRow 6 (some .boolean) 5 62 2 := ⟨by decide, by decide, _, rfl, yd_X6_readsRow, Or.inl ⟨rfl, lw_V q1798 q1800 qs107 q122 q1801⟩⟩
theorem yd_X6_hoursOfRow : xYd yX6_hoursOfRow 1 := ⟨by decide +kernel, by decide +kernel, by decide +kernel⟩
theorem cs_X6_428_X6_hoursOfRow : xCV RX6 428 yX6_hoursOfRow cX6_hoursOfRow 4 (some .int) 5 62 1 := ⟨by decide, by decide, _, rfl, yd_X6_hoursOfRow, Or.inl ⟨rfl, lw_V q1802 q1804 qs108 q122 q1805⟩⟩
theorem fd_X6_114 : xFg RX6 114 5 62 57 := ⟨_, rfl, rfl, by decide, by decide, in_X6, Or.inl q1322⟩
theorem ft_X6_57 : xFt 5 57 (.array .int) true := ⟨_, rfl, by decide +kernel, rfl, rfl⟩
def l_X6_even_70 (K : Int32 → MM → Option (Int32 × MM)) (F : Nat) (a0 : Nat) (x1 : Int32) : Nat → Int32 → Int32 → MM → Option (Int32 × MM)
  | 0, _, _, _ => none
  | f + 1, z2, z3, σ => (gI σ a0 5 62 58).bind fun v9 => if z3 < v9 then ((gI σ a0 5 62 58).bind fun v10 => l_X6_even_70 K F a0 x1 f ((z2 * v10)) ((z3 + 1)) σ) else (K z2 σ)
def l_X6_even_144 (K : MM → Option (Int32 × MM)) (F : Nat) (a0 : Nat) (x1 : Int32) (x2 : Int32) (x3 : Int32) (x4 : Int32) : Nat → Int32 → MM → Option (Int32 × MM)
  | 0, _, _ => none
  | f + 1, z5, σ => (gI σ a0 5 62 58).bind fun v22 => if z5 < v22 then ((gP σ a0 5 62 57).bind fun p23 => (gP σ a0 5 62 55).bind fun p24 => (gP σ a0 5 62 56).bind fun p25 => (aI σ p25 20 z5).bind fun v26 => (aI σ p24 20 v26).bind fun v27 => (sI σ p23 z5 v27).bind fun σ28 => l_X6_even_144 K F a0 x1 x2 x3 x4 f ((z5 + 1)) σ28) else (K σ)
def l_X6_even_98 (K : Int32 → MM → Option (Int32 × MM)) (F : Nat) (a0 : Nat) (x1 : Int32) (x2 : Int32) : Nat → Int32 → Int32 → MM → Option (Int32 × MM)
  | 0, _, _, _ => none
  | f + 1, z3, z4, σ => if z4 < x2 then ((gI σ a0 5 62 58).bind fun v13 => bq (g_X6_readsRow F σ a0 z4 v13) fun v15 σ14 => if v15 = 0 then (l_X6_even_98 K F a0 x1 x2 f z3 ((z4 + 1)) σ14) else ((gI σ14 a0 5 62 58).bind fun v16 => bq (g_X6_hoursOfRow F σ14 a0 v16) fun v18 σ17 => if v18 < z3 then ((gI σ17 a0 5 62 58).bind fun v19 => bq (g_X6_hoursOfRow F σ17 a0 v19) fun v21 σ20 => l_X6_even_144 (fun (σ29 : MM) => l_X6_even_98 K F a0 x1 x2 f v21 ((z4 + 1)) σ29) F a0 x1 x2 v21 z4 F 0 σ20) else (l_X6_even_98 K F a0 x1 x2 f z3 ((z4 + 1)) σ17))) else (K z3 σ)
def g_X6_even (F : Nat) (σ : MM) (a0 : Nat) (x1 : Int32) : Option (Int32 × MM) := if mT σ a0 = (5, 62) then (bq (g_X6_in F σ x1 0 5) fun v2 σ1 => jn (fun (σ3 : MM) => (g_X6_laysLacks F σ3 a0).bind fun σ5 => if x1 = 100 then ((gI σ5 a0 5 62 58).bind fun v35 => some (v35, σ5)) else ((gI σ5 a0 5 62 58).bind fun v6 => if 6 < v6 then (some ((-3), σ5)) else (jn (fun (σ7 : MM) => l_X6_even_70 (fun (r2_12 : Int32) (σ11 : MM) => l_X6_even_98 (fun (r3_31 : Int32) (σ30 : MM) => if x1 = 101 then (some (r3_31, σ30)) else ((gP σ30 a0 5 62 57).bind fun p32 => (aI σ30 p32 20 x1).bind fun v33 => some (v33, σ30))) F a0 x1 r2_12 F 1000000 0 σ11) F a0 x1 F 1 0 σ7) (fun k8 => if x1 < 100 then ((gI σ5 a0 5 62 58).bind fun v34 => if x1 < v34 then (k8 σ5) else (some ((-4), σ5))) else (k8 σ5))))) (fun k4 => if v2 = 0 then (bq (g_X6_in F σ1 x1 100 101) fun v37 σ36 => if v37 = 0 then (some ((-1), σ36)) else (k4 σ36)) else (k4 σ1))) else none
theorem wl_X6_even_70 {B : Nat} {G : XG} {d : Nat} {rf : Int32} {σf : MM} (hd : 4 ≤ d) (C : xC B G yX6_even cX6_even 6 (some .int) d 0 0) (E : xEnd B G (some (.int rf)) σf 0 0) {K : Int32 → MM → Option (Int32 × MM)} {F : Nat} {a0 : Nat} {x1 : Int32} (hK : ∀ (q2 : Int32) (σ : MM), K q2 σ = some (rf, σf) → xV B G 0 0 σ 91 [(0, rv B a0), (1, .int x1), (2, .int q2)] []) : ∀ (f : Nat) (z2 : Int32) (z3 : Int32) (σ : MM), l_X6_even_70 K F a0 x1 f z2 z3 σ = some (rf, σf) → xV B G 0 0 σ 70 [(0, rv B a0), (1, .int x1), (2, .int z2), (3, .int z3)] [] := by
  intro f
  induction f with
  | zero =>
    intro z2 z3 σ h
    have h : none = some (rf, σf) := h
    cases h
  | succ f ih =>
    intro z2 z3 σ h
    rw [l_X6_even_70.eq_2] at h
    refine r_iload_n (pc := 70) (i := 3) C dX6_even_70 rfl rfl ?_
    refine r_aload_n (pc := 71) (i := 0) C dX6_even_71 rfl rfl ?_
    refine r_getI (pc := 72) C fd_X6_416 rfl dX6_even_72 h (fun v9 h => ?_)
    refine r_icmpge (pc := 75) (tgt := 91) C dX6_even_75 (by decide) h (fun h => ?_) (fun h => ?_)
    · refine r_pick (lv' := [(0, rv B a0), (1, .int x1), (2, .int z2)]) [0, 1, 2] rfl ?_
      exact hK _ _ h
    · refine r_iload_n (pc := 78) (i := 2) C dX6_even_78 rfl rfl ?_
      refine r_aload_n (pc := 79) (i := 0) C dX6_even_79 rfl rfl ?_
      refine r_getI (pc := 80) C fd_X6_416 rfl dX6_even_80 h (fun v10 h => ?_)
      refine r_imul (pc := 83) C dX6_even_83 ?_
      refine r_istore_n (pc := 84) (i := 2) C dX6_even_84 rfl (by decide) ?_
      refine r_iinc (pc := 85) (i := 3) (v := (z3 + 1)) C dX6_even_85 rfl rfl (by decide) ?_
      refine r_goto (pc := 88) (tgt := 70) C dX6_even_88 (by decide) ?_
      refine r_pick (lv' := [(0, rv B a0), (1, .int x1), (2, .int (z2 * v10)), (3, .int (z3 + 1))]) [0, 1, 2, 3] rfl ?_
      exact ih _ _ _ h
theorem wl_X6_even_144 {B : Nat} {G : XG} {d : Nat} {rf : Int32} {σf : MM} (hd : 4 ≤ d) (C : xC B G yX6_even cX6_even 6 (some .int) d 0 0) (E : xEnd B G (some (.int rf)) σf 0 0) {K : MM → Option (Int32 × MM)} {F : Nat} {a0 : Nat} {x1 : Int32} {x2 : Int32} {x3 : Int32} {x4 : Int32} (hK : ∀ (σ : MM), K σ = some (rf, σf) → xV B G 0 0 σ 178 [(0, rv B a0), (1, .int x1), (2, .int x2), (3, .int x3), (4, .int x4)] []) : ∀ (f : Nat) (z5 : Int32) (σ : MM), l_X6_even_144 K F a0 x1 x2 x3 x4 f z5 σ = some (rf, σf) → xV B G 0 0 σ 144 [(0, rv B a0), (1, .int x1), (2, .int x2), (3, .int x3), (4, .int x4), (5, .int z5)] [] := by
  intro f
  induction f with
  | zero =>
    intro z5 σ h
    have h : none = some (rf, σf) := h
    cases h
  | succ f ih =>
    intro z5 σ h
    rw [l_X6_even_144.eq_2] at h
    refine r_iload (pc := 144) (i := 5) C dX6_even_144 rfl ?_
    refine r_aload_n (pc := 146) (i := 0) C dX6_even_146 rfl rfl ?_
    refine r_getI (pc := 147) C fd_X6_416 rfl dX6_even_147 h (fun v22 h => ?_)
    refine r_icmpge (pc := 150) (tgt := 178) C dX6_even_150 (by decide) h (fun h => ?_) (fun h => ?_)
    · refine r_pick (lv' := [(0, rv B a0), (1, .int x1), (2, .int x2), (3, .int x3), (4, .int x4)]) [0, 1, 2, 3, 4] rfl ?_
      exact hK _ h
    · refine r_aload_n (pc := 153) (i := 0) C dX6_even_153 rfl rfl ?_
      refine r_getP (pc := 154) C fd_X6_114 rfl dX6_even_154 h (fun p23 h => ?_)
      refine r_iload (pc := 157) (i := 5) C dX6_even_157 rfl ?_
      refine r_aload_n (pc := 159) (i := 0) C dX6_even_159 rfl rfl ?_
      refine r_getP (pc := 160) C fd_X6_108 rfl dX6_even_160 h (fun p24 h => ?_)
      refine r_aload_n (pc := 163) (i := 0) C dX6_even_163 rfl rfl ?_
      refine r_getP (pc := 164) C fd_X6_111 rfl dX6_even_164 h (fun p25 h => ?_)
      refine r_iload (pc := 167) (i := 5) C dX6_even_167 rfl ?_
      refine r_iald (pc := 169) C dX6_even_169 h (fun v26 h => ?_)
      refine r_iald (pc := 170) C dX6_even_170 h (fun v27 h => ?_)
      refine r_iast (pc := 171) C dX6_even_171 h (fun σ28 h => ?_)
      refine r_iinc (pc := 172) (i := 5) (v := (z5 + 1)) C dX6_even_172 rfl rfl (by decide) ?_
      refine r_goto (pc := 175) (tgt := 144) C dX6_even_175 (by decide) ?_
      refine r_pick (lv' := [(0, rv B a0), (1, .int x1), (2, .int x2), (3, .int x3), (4, .int x4), (5, .int (z5 + 1))]) [0, 1, 2, 3, 4, 5] rfl ?_
      exact ih _ _ h
theorem wl_X6_even_98 {B : Nat} {G : XG} {d : Nat} {rf : Int32} {σf : MM} (hd : 4 ≤ d) (C : xC B G yX6_even cX6_even 6 (some .int) d 0 0) (E : xEnd B G (some (.int rf)) σf 0 0) {K : Int32 → MM → Option (Int32 × MM)} {F : Nat} {a0 : Nat} {x1 : Int32} {x2 : Int32} (hK : ∀ (q3 : Int32) (σ : MM), K q3 σ = some (rf, σf) → xV B G 0 0 σ 184 [(0, rv B a0), (1, .int x1), (3, .int q3)] []) : ∀ (f : Nat) (z3 : Int32) (z4 : Int32) (σ : MM), l_X6_even_98 K F a0 x1 x2 f z3 z4 σ = some (rf, σf) → xV B G 0 0 σ 98 [(0, rv B a0), (1, .int x1), (2, .int x2), (3, .int z3), (4, .int z4)] [] := by
  intro f
  induction f with
  | zero =>
    intro z3 z4 σ h
    have h : none = some (rf, σf) := h
    cases h
  | succ f ih =>
    intro z3 z4 σ h
    rw [l_X6_even_98.eq_2] at h
    refine r_iload (pc := 98) (i := 4) C dX6_even_98 rfl ?_
    refine r_iload_n (pc := 100) (i := 2) C dX6_even_100 rfl rfl ?_
    refine r_icmpge (pc := 101) (tgt := 184) C dX6_even_101 (by decide) h (fun h => ?_) (fun h => ?_)
    · refine r_pick (lv' := [(0, rv B a0), (1, .int x1), (3, .int z3)]) [0, 1, 3] rfl ?_
      exact hK _ _ h
    · refine r_aload_n (pc := 104) (i := 0) C dX6_even_104 rfl rfl ?_
      refine r_iload (pc := 105) (i := 4) C dX6_even_105 rfl ?_
      refine r_aload_n (pc := 107) (i := 0) C dX6_even_107 rfl rfl ?_
      refine r_getI (pc := 108) C fd_X6_416 rfl dX6_even_108 h (fun v13 h => ?_)
      refine r_callVI (pc := 111) (As := [.int z4, .int v13]) (st := []) C cs_X6_425_X6_readsRow h (fun _ _ e => w_X6_readsRow (Nat.le_refl 1) e) (fun _ _ e => t_X6_readsRow e) (Nat.le_trans (Nat.le_of_ble_eq_true rfl) hd) (Nat.le_of_ble_eq_true rfl) dX6_even_111 (fun v15 σ14 h => ?_)
      refine r_ifeq (pc := 114) (tgt := 178) C dX6_even_114 (by decide) h (fun h => ?_) (fun h => ?_)
      · refine r_iinc (pc := 178) (i := 4) (v := (z4 + 1)) C dX6_even_178 rfl rfl (by decide) ?_
        refine r_goto (pc := 181) (tgt := 98) C dX6_even_181 (by decide) ?_
        refine r_pick (lv' := [(0, rv B a0), (1, .int x1), (2, .int x2), (3, .int z3), (4, .int (z4 + 1))]) [0, 1, 2, 3, 4] rfl ?_
        exact ih _ _ _ h
      · refine r_aload_n (pc := 117) (i := 0) C dX6_even_117 rfl rfl ?_
        refine r_aload_n (pc := 118) (i := 0) C dX6_even_118 rfl rfl ?_
        refine r_getI (pc := 119) C fd_X6_416 rfl dX6_even_119 h (fun v16 h => ?_)
        refine r_callVI (pc := 122) (As := [.int v16]) (st := []) C cs_X6_428_X6_hoursOfRow h (fun _ _ e => w_X6_hoursOfRow (Nat.le_refl 2) e) (fun _ _ e => t_X6_hoursOfRow e) (Nat.le_trans (Nat.le_of_ble_eq_true rfl) hd) (Nat.le_of_ble_eq_true rfl) dX6_even_122 (fun v18 σ17 h => ?_)
        refine r_iload_n (pc := 125) (i := 3) C dX6_even_125 rfl rfl ?_
        refine r_icmplt (pc := 126) (tgt := 132) C dX6_even_126 (by decide) h (fun h => ?_) (fun h => ?_)
        · refine r_aload_n (pc := 132) (i := 0) C dX6_even_132 rfl rfl ?_
          refine r_aload_n (pc := 133) (i := 0) C dX6_even_133 rfl rfl ?_
          refine r_getI (pc := 134) C fd_X6_416 rfl dX6_even_134 h (fun v19 h => ?_)
          refine r_callVI (pc := 137) (As := [.int v19]) (st := []) C cs_X6_428_X6_hoursOfRow h (fun _ _ e => w_X6_hoursOfRow (Nat.le_refl 2) e) (fun _ _ e => t_X6_hoursOfRow e) (Nat.le_trans (Nat.le_of_ble_eq_true rfl) hd) (Nat.le_of_ble_eq_true rfl) dX6_even_137 (fun v21 σ20 h => ?_)
          refine r_istore_n (pc := 140) (i := 3) C dX6_even_140 rfl (by decide) ?_
          refine r_iconst (pc := 141) (v := 0) C dX6_even_141 (by decide) ?_
          refine r_istore (pc := 142) (i := 5) C dX6_even_142 (by decide) ?_
          refine r_pick (lv' := [(0, rv B a0), (1, .int x1), (2, .int x2), (3, .int v21), (4, .int z4), (5, .int 0)]) [0, 1, 2, 3, 4, 5] rfl ?_
          refine wl_X6_even_144 hd C E (fun  σ29 h => ?_) _ _ _ h
          refine r_iinc (pc := 178) (i := 4) (v := (z4 + 1)) C dX6_even_178 rfl rfl (by decide) ?_
          refine r_goto (pc := 181) (tgt := 98) C dX6_even_181 (by decide) ?_
          refine r_pick (lv' := [(0, rv B a0), (1, .int x1), (2, .int x2), (3, .int v21), (4, .int (z4 + 1))]) [0, 1, 2, 3, 4] rfl ?_
          exact ih _ _ _ h
        · refine r_goto (pc := 129) (tgt := 178) C dX6_even_129 (by decide) ?_
          refine r_iinc (pc := 178) (i := 4) (v := (z4 + 1)) C dX6_even_178 rfl rfl (by decide) ?_
          refine r_goto (pc := 181) (tgt := 98) C dX6_even_181 (by decide) ?_
          refine r_pick (lv' := [(0, rv B a0), (1, .int x1), (2, .int x2), (3, .int z3), (4, .int (z4 + 1))]) [0, 1, 2, 3, 4] rfl ?_
          exact ih _ _ _ h
theorem w_X6_even {B F : Nat} {d : Nat} {σ : MM} {a0 : Nat} {x1 : Int32} {rf : Int32} {σf : MM} (hd : 4 ≤ d) (h : g_X6_even F σ a0 x1 = some (rf, σf)) : xMA B yX6_even cX6_even 6 (some .int) d 0 0 [rv B a0, .int x1] σ (some (.int rf)) σf := by
  refine xMA.of (by decide +kernel) (Nat.le_of_ble_eq_true rfl) (cat_rv (cat_int cat_nil)) (fun G C E => ?_)
  unfold g_X6_even at h
  obtain ⟨-, h⟩ := r_ck h
  refine r_iload_n (pc := 0) (i := 1) C dX6_even_0 rfl rfl ?_
  refine r_iconst (pc := 1) (v := 0) C dX6_even_1 (by decide) ?_
  refine r_iconst (pc := 2) (v := 5) C dX6_even_2 (by decide) ?_
  refine r_callSI (pc := 3) (As := [.int x1, .int 0, .int 5]) (st := []) C cs_X6_123_X6_in h (fun _ _ e => w_X6_in (Nat.le_refl 0) e) (Nat.le_trans (Nat.le_of_ble_eq_true rfl) hd) (Nat.le_of_ble_eq_true rfl) dX6_even_3 (fun v2 σ1 h => ?_)
  refine r_jn (fun k9 => ∀  (σ3 : MM), k9 σ3 = some (rf, σf) → xV B G 0 0 σ3 22 [(0, rv B a0), (1, .int x1)] []) h (fun  σ3 h => ?_) (fun k4 hk4 h => ?_)
  · refine r_aload_n (pc := 22) (i := 0) C dX6_even_22 rfl rfl ?_
    refine r_callVV (pc := 23) (As := []) (st := []) C cs_X6_422_X6_laysLacks h (fun _ e => w_X6_laysLacks (Nat.le_refl 3) e) (fun _ e => t_X6_laysLacks e) (Nat.le_trans (Nat.le_of_ble_eq_true rfl) hd) (Nat.le_of_ble_eq_true rfl) dX6_even_23 (fun σ5 h => ?_)
    refine r_iload_n (pc := 26) (i := 1) C dX6_even_26 rfl rfl ?_
    refine r_bipush (pc := 27) (v := 100) C dX6_even_27 (by decide) ?_
    refine r_icmpne (pc := 29) (tgt := 37) C dX6_even_29 (by decide) h (fun h => ?_) (fun h => ?_)
    · refine r_aload_n (pc := 37) (i := 0) C dX6_even_37 rfl rfl ?_
      refine r_getI (pc := 38) C fd_X6_416 rfl dX6_even_38 h (fun v6 h => ?_)
      refine r_bipush (pc := 41) (v := 6) C dX6_even_41 (by decide) ?_
      refine r_icmple (pc := 43) (tgt := 49) C dX6_even_43 (by decide) h (fun h => ?_) (fun h => ?_)
      · refine r_iload_n (pc := 49) (i := 1) C dX6_even_49 rfl rfl ?_
        refine r_bipush (pc := 50) (v := 100) C dX6_even_50 (by decide) ?_
        refine r_jn (fun k9 => ∀  (σ7 : MM), k9 σ7 = some (rf, σf) → xV B G 0 0 σ7 66 [(0, rv B a0), (1, .int x1)] []) h (fun  σ7 h => ?_) (fun k8 hk8 h => ?_)
        · refine r_iconst (pc := 66) (v := 1) C dX6_even_66 (by decide) ?_
          refine r_istore_n (pc := 67) (i := 2) C dX6_even_67 rfl (by decide) ?_
          refine r_iconst (pc := 68) (v := 0) C dX6_even_68 (by decide) ?_
          refine r_istore_n (pc := 69) (i := 3) C dX6_even_69 rfl (by decide) ?_
          refine r_pick (lv' := [(0, rv B a0), (1, .int x1), (2, .int 1), (3, .int 0)]) [0, 1, 2, 3] rfl ?_
          refine wl_X6_even_70 hd C E (fun r2_12 σ11 h => ?_) _ _ _ _ h
          refine r_ldc_w (pc := 91) C q1785 dX6_even_91 ?_
          refine r_istore_n (pc := 94) (i := 3) C dX6_even_94 rfl (by decide) ?_
          refine r_iconst (pc := 95) (v := 0) C dX6_even_95 (by decide) ?_
          refine r_istore (pc := 96) (i := 4) C dX6_even_96 (by decide) ?_
          refine r_pick (lv' := [(0, rv B a0), (1, .int x1), (2, .int r2_12), (3, .int 1000000), (4, .int 0)]) [0, 1, 2, 3, 4] rfl ?_
          refine wl_X6_even_98 hd C E (fun r3_31 σ30 h => ?_) _ _ _ _ h
          refine r_iload_n (pc := 184) (i := 1) C dX6_even_184 rfl rfl ?_
          refine r_bipush (pc := 185) (v := 101) C dX6_even_185 (by decide) ?_
          refine r_icmpne (pc := 187) (tgt := 194) C dX6_even_187 (by decide) h (fun h => ?_) (fun h => ?_)
          · refine r_aload_n (pc := 194) (i := 0) C dX6_even_194 rfl rfl ?_
            refine r_getP (pc := 195) C fd_X6_114 rfl dX6_even_195 h (fun p32 h => ?_)
            refine r_iload_n (pc := 198) (i := 1) C dX6_even_198 rfl rfl ?_
            refine r_iald (pc := 199) C dX6_even_199 h (fun v33 h => ?_)
            exact r_iret (pc := 200) C rfl dX6_even_200 h E
          · refine r_iload_n (pc := 190) (i := 3) C dX6_even_190 rfl rfl ?_
            refine r_goto (pc := 191) (tgt := 200) C dX6_even_191 (by decide) ?_
            exact r_iret (pc := 200) C rfl dX6_even_200 h E
        · refine r_icmpge (pc := 52) (tgt := 66) C dX6_even_52 (by decide) h (fun h => ?_) (fun h => ?_)
          · refine r_pick (lv' := [(0, rv B a0), (1, .int x1)]) [0, 1] rfl ?_
            exact hk8 _ h
          · refine r_iload_n (pc := 55) (i := 1) C dX6_even_55 rfl rfl ?_
            refine r_aload_n (pc := 56) (i := 0) C dX6_even_56 rfl rfl ?_
            refine r_getI (pc := 57) C fd_X6_416 rfl dX6_even_57 h (fun v34 h => ?_)
            refine r_icmplt (pc := 60) (tgt := 66) C dX6_even_60 (by decide) h (fun h => ?_) (fun h => ?_)
            · refine r_pick (lv' := [(0, rv B a0), (1, .int x1)]) [0, 1] rfl ?_
              exact hk8 _ h
            · refine r_bipush (pc := 63) (v := (-4)) C dX6_even_63 (by decide) ?_
              exact r_iret (pc := 65) C rfl dX6_even_65 h E
      · refine r_bipush (pc := 46) (v := (-3)) C dX6_even_46 (by decide) ?_
        exact r_iret (pc := 48) C rfl dX6_even_48 h E
    · refine r_aload_n (pc := 32) (i := 0) C dX6_even_32 rfl rfl ?_
      refine r_getI (pc := 33) C fd_X6_416 rfl dX6_even_33 h (fun v35 h => ?_)
      exact r_iret (pc := 36) C rfl dX6_even_36 h E
  · refine r_ifne (pc := 6) (tgt := 22) C dX6_even_6 (by decide) h (fun h => ?_) (fun h => ?_)
    · refine r_pick (lv' := [(0, rv B a0), (1, .int x1)]) [0, 1] rfl ?_
      exact hk4 _ h
    · refine r_iload_n (pc := 9) (i := 1) C dX6_even_9 rfl rfl ?_
      refine r_bipush (pc := 10) (v := 100) C dX6_even_10 (by decide) ?_
      refine r_bipush (pc := 12) (v := 101) C dX6_even_12 (by decide) ?_
      refine r_callSI (pc := 14) (As := [.int x1, .int 100, .int 101]) (st := []) C cs_X6_123_X6_in h (fun _ _ e => w_X6_in (Nat.le_refl 0) e) (Nat.le_trans (Nat.le_of_ble_eq_true rfl) hd) (Nat.le_of_ble_eq_true rfl) dX6_even_14 (fun v37 σ36 h => ?_)
      refine r_ifne (pc := 17) (tgt := 22) C dX6_even_17 (by decide) h (fun h => ?_) (fun h => ?_)
      · refine r_pick (lv' := [(0, rv B a0), (1, .int x1)]) [0, 1] rfl ?_
        exact hk4 _ h
      · refine r_iconst (pc := 20) (v := (-1)) C dX6_even_20 (by decide) ?_
        exact r_iret (pc := 21) C rfl dX6_even_21 h E
theorem t_X6_even {F : Nat} {σ : MM} {a0 : Nat} {x1 : Int32} {r : Int32 × MM} (h : g_X6_even F σ a0 x1 = some r) : mT σ a0 = (5, 62) := by
  unfold g_X6_even at h
  exact (r_ck h).1
def l_X6_bits_4 (K : Int32 → MM → Option (Int32 × MM)) (F : Nat) (x0 : Int32) : Nat → Int32 → Int32 → MM → Option (Int32 × MM)
  | 0, _, _, _ => none
  | f + 1, z1, z2, σ => if z2 < 12 then (l_X6_bits_4 K F x0 f ((z1 + ((x0 >>> (z2 &&& 31)) &&& 1))) ((z2 + 1)) σ) else (K z1 σ)
def g_X6_bits (F : Nat) (σ : MM) (x0 : Int32) : Option (Int32 × MM) := l_X6_bits_4 (fun (r1_2 : Int32) (σ1 : MM) => some (r1_2, σ1)) F x0 F 0 0 σ
theorem wl_X6_bits_4 {B : Nat} {G : XG} {d : Nat} {rf : Int32} {σf : MM} (hd : 0 ≤ d) (C : xC B G yX6_bits cX6_bits 3 (some .int) d 0 0) (E : xEnd B G (some (.int rf)) σf 0 0) {K : Int32 → MM → Option (Int32 × MM)} {F : Nat} {x0 : Int32} (hK : ∀ (q1 : Int32) (σ : MM), K q1 σ = some (rf, σf) → xV B G 0 0 σ 24 [(1, .int q1)] []) : ∀ (f : Nat) (z1 : Int32) (z2 : Int32) (σ : MM), l_X6_bits_4 K F x0 f z1 z2 σ = some (rf, σf) → xV B G 0 0 σ 4 [(0, .int x0), (1, .int z1), (2, .int z2)] [] := by
  intro f
  induction f with
  | zero =>
    intro z1 z2 σ h
    have h : none = some (rf, σf) := h
    cases h
  | succ f ih =>
    intro z1 z2 σ h
    rw [l_X6_bits_4.eq_2] at h
    refine r_iload_n (pc := 4) (i := 2) C dX6_bits_4 rfl rfl ?_
    refine r_bipush (pc := 5) (v := 12) C dX6_bits_5 (by decide) ?_
    refine r_icmpge (pc := 7) (tgt := 24) C dX6_bits_7 (by decide) h (fun h => ?_) (fun h => ?_)
    · refine r_pick (lv' := [(1, .int z1)]) [1] rfl ?_
      exact hK _ _ h
    · refine r_iload_n (pc := 10) (i := 1) C dX6_bits_10 rfl rfl ?_
      refine r_iload_n (pc := 11) (i := 0) C dX6_bits_11 rfl rfl ?_
      refine r_iload_n (pc := 12) (i := 2) C dX6_bits_12 rfl rfl ?_
      refine r_ishr (pc := 13) C dX6_bits_13 ?_
      refine r_iconst (pc := 14) (v := 1) C dX6_bits_14 (by decide) ?_
      refine r_iand (pc := 15) C dX6_bits_15 ?_
      refine r_iadd (pc := 16) C dX6_bits_16 ?_
      refine r_istore_n (pc := 17) (i := 1) C dX6_bits_17 rfl (by decide) ?_
      refine r_iinc (pc := 18) (i := 2) (v := (z2 + 1)) C dX6_bits_18 rfl rfl (by decide) ?_
      refine r_goto (pc := 21) (tgt := 4) C dX6_bits_21 (by decide) ?_
      refine r_pick (lv' := [(0, .int x0), (1, .int (z1 + ((x0 >>> (z2 &&& 31)) &&& 1))), (2, .int (z2 + 1))]) [0, 1, 2] rfl ?_
      exact ih _ _ _ h
theorem w_X6_bits {B F : Nat} {d : Nat} {σ : MM} {x0 : Int32} {rf : Int32} {σf : MM} (hd : 0 ≤ d) (h : g_X6_bits F σ x0 = some (rf, σf)) : xMA B yX6_bits cX6_bits 3 (some .int) d 0 0 [.int x0] σ (some (.int rf)) σf := by
  refine xMA.of (by decide +kernel) (Nat.le_of_ble_eq_true rfl) (cat_int cat_nil) (fun G C E => ?_)
  unfold g_X6_bits at h
  refine r_iconst (pc := 0) (v := 0) C dX6_bits_0 (by decide) ?_
  refine r_istore_n (pc := 1) (i := 1) C dX6_bits_1 rfl (by decide) ?_
  refine r_iconst (pc := 2) (v := 0) C dX6_bits_2 (by decide) ?_
  refine r_istore_n (pc := 3) (i := 2) C dX6_bits_3 rfl (by decide) ?_
  refine r_pick (lv' := [(0, .int x0), (1, .int 0), (2, .int 0)]) [0, 1, 2] rfl ?_
  refine wl_X6_bits_4 hd C E (fun r1_2 σ1 h => ?_) _ _ _ _ h
  refine r_iload_n (pc := 24) (i := 1) C dX6_bits_24 rfl rfl ?_
  exact r_iret (pc := 25) C rfl dX6_bits_25 h E
def l_X6_isEven_13 (K : Int32 → MM → Option (Int32 × MM)) (F : Nat) (a0 : Nat) (x1 : Int32) (x2 : Int32) : Nat → Int32 → Int32 → MM → Option (Int32 × MM)
  | 0, _, _, _ => none
  | f + 1, z3, z4, σ => (gI σ a0 5 62 50).bind fun v1 => if z4 < v1 then (bq (g_X6_has F σ x1 z4) fun v3 σ2 => jn (fun (w5 : Int32) (σ4 : MM) => (gP σ4 a0 5 62 49).bind fun p7 => (aI σ4 p7 20 z4).bind fun v8 => jn (fun (y3_10 : Int32) (σ9 : MM) => (gP σ9 a0 5 62 48).bind fun p12 => (aI σ9 p12 20 z4).bind fun v13 => if v13 = x2 then (l_X6_isEven_13 K F a0 x1 x2 f ((y3_10 - w5)) ((z4 + 1)) σ9) else (l_X6_isEven_13 K F a0 x1 x2 f y3_10 ((z4 + 1)) σ9)) (fun k11 => if v8 = x2 then (k11 ((z3 + w5)) σ4) else (k11 z3 σ4))) (fun k6 => if v3 = 0 then (k6 1 σ2) else (k6 ((-1)) σ2))) else (K z3 σ)
def l_X6_isEven_2 (K : MM → Option (Int32 × MM)) (F : Nat) (a0 : Nat) (x1 : Int32) : Nat → Int32 → MM → Option (Int32 × MM)
  | 0, _, _ => none
  | f + 1, z2, σ => if z2 < 10 then (l_X6_isEven_13 (fun (r3_15 : Int32) (σ14 : MM) => if r3_15 = 0 then (l_X6_isEven_2 K F a0 x1 f ((z2 + 1)) σ14) else (some (0, σ14))) F a0 x1 z2 F 0 0 σ) else (K σ)
def g_X6_isEven (F : Nat) (σ : MM) (a0 : Nat) (x1 : Int32) : Option (Int32 × MM) := if mT σ a0 = (5, 62) then (l_X6_isEven_2 (fun (σ16 : MM) => some (1, σ16)) F a0 x1 F 0 σ) else none
theorem wl_X6_isEven_13 {B : Nat} {G : XG} {d : Nat} {rf : Int32} {σf : MM} (hd : 1 ≤ d) (C : xC B G yX6_isEven cX6_isEven 6 (some .boolean) d 0 0) (E : xEnd B G (some (.int rf)) σf 0 0) {K : Int32 → MM → Option (Int32 × MM)} {F : Nat} {a0 : Nat} {x1 : Int32} {x2 : Int32} (hK : ∀ (q3 : Int32) (σ : MM), K q3 σ = some (rf, σf) → xV B G 0 0 σ 76 [(0, rv B a0), (1, .int x1), (2, .int x2), (3, .int q3)] []) : ∀ (f : Nat) (z3 : Int32) (z4 : Int32) (σ : MM), l_X6_isEven_13 K F a0 x1 x2 f z3 z4 σ = some (rf, σf) → xV B G 0 0 σ 13 [(0, rv B a0), (1, .int x1), (2, .int x2), (3, .int z3), (4, .int z4)] [] := by
  intro f
  induction f with
  | zero =>
    intro z3 z4 σ h
    have h : none = some (rf, σf) := h
    cases h
  | succ f ih =>
    intro z3 z4 σ h
    rw [l_X6_isEven_13.eq_2] at h
    refine r_iload (pc := 13) (i := 4) C dX6_isEven_13 rfl ?_
    refine r_aload_n (pc := 15) (i := 0) C dX6_isEven_15 rfl rfl ?_
    refine r_getI (pc := 16) C fd_X6_400 rfl dX6_isEven_16 h (fun v1 h => ?_)
    refine r_icmpge (pc := 19) (tgt := 76) C dX6_isEven_19 (by decide) h (fun h => ?_) (fun h => ?_)
    · refine r_pick (lv' := [(0, rv B a0), (1, .int x1), (2, .int x2), (3, .int z3)]) [0, 1, 2, 3] rfl ?_
      exact hK _ _ h
    · refine r_iload_n (pc := 22) (i := 1) C dX6_isEven_22 rfl rfl ?_
      refine r_iload (pc := 23) (i := 4) C dX6_isEven_23 rfl ?_
      refine r_callSI (pc := 25) (As := [.int x1, .int z4]) (st := []) C cs_X6_131_X6_has h (fun _ _ e => w_X6_has (Nat.le_refl 0) e) (Nat.le_trans (Nat.le_of_ble_eq_true rfl) hd) (Nat.le_of_ble_eq_true rfl) dX6_isEven_25 (fun v3 σ2 h => ?_)
      refine r_jn (fun k9 => ∀ (w5 : Int32) (σ4 : MM), k9 w5 σ4 = some (rf, σf) → xV B G 0 0 σ4 36 [(0, rv B a0), (1, .int x1), (2, .int x2), (3, .int z3), (4, .int z4)] [.int w5]) h (fun w5 σ4 h => ?_) (fun k6 hk6 h => ?_)
      · refine r_istore (pc := 36) (i := 5) C dX6_isEven_36 (by decide) ?_
        refine r_aload_n (pc := 38) (i := 0) C dX6_isEven_38 rfl rfl ?_
        refine r_getP (pc := 39) C fd_X6_92 rfl dX6_isEven_39 h (fun p7 h => ?_)
        refine r_iload (pc := 42) (i := 4) C dX6_isEven_42 rfl ?_
        refine r_iald (pc := 44) C dX6_isEven_44 h (fun v8 h => ?_)
        refine r_iload_n (pc := 45) (i := 2) C dX6_isEven_45 rfl rfl ?_
        refine r_jn (fun k9 => ∀ (y3_10 : Int32) (σ9 : MM), k9 y3_10 σ9 = some (rf, σf) → xV B G 0 0 σ9 54 [(0, rv B a0), (1, .int x1), (2, .int x2), (3, .int y3_10), (4, .int z4), (5, .int w5)] []) h (fun y3_10 σ9 h => ?_) (fun k11 hk11 h => ?_)
        · refine r_aload_n (pc := 54) (i := 0) C dX6_isEven_54 rfl rfl ?_
          refine r_getP (pc := 55) C fd_X6_89 rfl dX6_isEven_55 h (fun p12 h => ?_)
          refine r_iload (pc := 58) (i := 4) C dX6_isEven_58 rfl ?_
          refine r_iald (pc := 60) C dX6_isEven_60 h (fun v13 h => ?_)
          refine r_iload_n (pc := 61) (i := 2) C dX6_isEven_61 rfl rfl ?_
          refine r_icmpne (pc := 62) (tgt := 70) C dX6_isEven_62 (by decide) h (fun h => ?_) (fun h => ?_)
          · refine r_iinc (pc := 70) (i := 4) (v := (z4 + 1)) C dX6_isEven_70 rfl rfl (by decide) ?_
            refine r_goto (pc := 73) (tgt := 13) C dX6_isEven_73 (by decide) ?_
            refine r_pick (lv' := [(0, rv B a0), (1, .int x1), (2, .int x2), (3, .int y3_10), (4, .int (z4 + 1))]) [0, 1, 2, 3, 4] rfl ?_
            exact ih _ _ _ h
          · refine r_iload_n (pc := 65) (i := 3) C dX6_isEven_65 rfl rfl ?_
            refine r_iload (pc := 66) (i := 5) C dX6_isEven_66 rfl ?_
            refine r_isub (pc := 68) C dX6_isEven_68 ?_
            refine r_istore_n (pc := 69) (i := 3) C dX6_isEven_69 rfl (by decide) ?_
            refine r_iinc (pc := 70) (i := 4) (v := (z4 + 1)) C dX6_isEven_70 rfl rfl (by decide) ?_
            refine r_goto (pc := 73) (tgt := 13) C dX6_isEven_73 (by decide) ?_
            refine r_pick (lv' := [(0, rv B a0), (1, .int x1), (2, .int x2), (3, .int (y3_10 - w5)), (4, .int (z4 + 1))]) [0, 1, 2, 3, 4] rfl ?_
            exact ih _ _ _ h
        · refine r_icmpne (pc := 46) (tgt := 54) C dX6_isEven_46 (by decide) h (fun h => ?_) (fun h => ?_)
          · refine r_pick (lv' := [(0, rv B a0), (1, .int x1), (2, .int x2), (3, .int z3), (4, .int z4), (5, .int w5)]) [0, 1, 2, 3, 4, 5] rfl ?_
            exact hk11 _ _ h
          · refine r_iload_n (pc := 49) (i := 3) C dX6_isEven_49 rfl rfl ?_
            refine r_iload (pc := 50) (i := 5) C dX6_isEven_50 rfl ?_
            refine r_iadd (pc := 52) C dX6_isEven_52 ?_
            refine r_istore_n (pc := 53) (i := 3) C dX6_isEven_53 rfl (by decide) ?_
            refine r_pick (lv' := [(0, rv B a0), (1, .int x1), (2, .int x2), (3, .int (z3 + w5)), (4, .int z4), (5, .int w5)]) [0, 1, 2, 3, 4, 5] rfl ?_
            exact hk11 _ _ h
      · refine r_ifeq (pc := 28) (tgt := 35) C dX6_isEven_28 (by decide) h (fun h => ?_) (fun h => ?_)
        · refine r_iconst (pc := 35) (v := 1) C dX6_isEven_35 (by decide) ?_
          refine r_pick (lv' := [(0, rv B a0), (1, .int x1), (2, .int x2), (3, .int z3), (4, .int z4)]) [0, 1, 2, 3, 4] rfl ?_
          exact hk6 _ _ h
        · refine r_iconst (pc := 31) (v := (-1)) C dX6_isEven_31 (by decide) ?_
          refine r_goto (pc := 32) (tgt := 36) C dX6_isEven_32 (by decide) ?_
          refine r_pick (lv' := [(0, rv B a0), (1, .int x1), (2, .int x2), (3, .int z3), (4, .int z4)]) [0, 1, 2, 3, 4] rfl ?_
          exact hk6 _ _ h
theorem wl_X6_isEven_2 {B : Nat} {G : XG} {d : Nat} {rf : Int32} {σf : MM} (hd : 1 ≤ d) (C : xC B G yX6_isEven cX6_isEven 6 (some .boolean) d 0 0) (E : xEnd B G (some (.int rf)) σf 0 0) {K : MM → Option (Int32 × MM)} {F : Nat} {a0 : Nat} {x1 : Int32} (hK : ∀ (σ : MM), K σ = some (rf, σf) → xV B G 0 0 σ 88 [] []) : ∀ (f : Nat) (z2 : Int32) (σ : MM), l_X6_isEven_2 K F a0 x1 f z2 σ = some (rf, σf) → xV B G 0 0 σ 2 [(0, rv B a0), (1, .int x1), (2, .int z2)] [] := by
  intro f
  induction f with
  | zero =>
    intro z2 σ h
    have h : none = some (rf, σf) := h
    cases h
  | succ f ih =>
    intro z2 σ h
    rw [l_X6_isEven_2.eq_2] at h
    refine r_iload_n (pc := 2) (i := 2) C dX6_isEven_2 rfl rfl ?_
    refine r_bipush (pc := 3) (v := 10) C dX6_isEven_3 (by decide) ?_
    refine r_icmpge (pc := 5) (tgt := 88) C dX6_isEven_5 (by decide) h (fun h => ?_) (fun h => ?_)
    · refine r_pick (lv' := []) [] rfl ?_
      exact hK _ h
    · refine r_iconst (pc := 8) (v := 0) C dX6_isEven_8 (by decide) ?_
      refine r_istore_n (pc := 9) (i := 3) C dX6_isEven_9 rfl (by decide) ?_
      refine r_iconst (pc := 10) (v := 0) C dX6_isEven_10 (by decide) ?_
      refine r_istore (pc := 11) (i := 4) C dX6_isEven_11 (by decide) ?_
      refine r_pick (lv' := [(0, rv B a0), (1, .int x1), (2, .int z2), (3, .int 0), (4, .int 0)]) [0, 1, 2, 3, 4] rfl ?_
      refine wl_X6_isEven_13 hd C E (fun r3_15 σ14 h => ?_) _ _ _ _ h
      refine r_iload_n (pc := 76) (i := 3) C dX6_isEven_76 rfl rfl ?_
      refine r_ifeq (pc := 77) (tgt := 82) C dX6_isEven_77 (by decide) h (fun h => ?_) (fun h => ?_)
      · refine r_iinc (pc := 82) (i := 2) (v := (z2 + 1)) C dX6_isEven_82 rfl rfl (by decide) ?_
        refine r_goto (pc := 85) (tgt := 2) C dX6_isEven_85 (by decide) ?_
        refine r_pick (lv' := [(0, rv B a0), (1, .int x1), (2, .int (z2 + 1))]) [0, 1, 2] rfl ?_
        exact ih _ _ h
      · refine r_iconst (pc := 80) (v := 0) C dX6_isEven_80 (by decide) ?_
        exact r_zretL (pc := 81) C rfl dX6_isEven_81 (Or.inl rfl) h E
theorem w_X6_isEven {B F : Nat} {d : Nat} {σ : MM} {a0 : Nat} {x1 : Int32} {rf : Int32} {σf : MM} (hd : 1 ≤ d) (h : g_X6_isEven F σ a0 x1 = some (rf, σf)) : xMA B yX6_isEven cX6_isEven 6 (some .boolean) d 0 0 [rv B a0, .int x1] σ (some (.int rf)) σf := by
  refine xMA.of (by decide +kernel) (Nat.le_of_ble_eq_true rfl) (cat_rv (cat_int cat_nil)) (fun G C E => ?_)
  unfold g_X6_isEven at h
  obtain ⟨-, h⟩ := r_ck h
  refine r_iconst (pc := 0) (v := 0) C dX6_isEven_0 (by decide) ?_
  refine r_istore_n (pc := 1) (i := 2) C dX6_isEven_1 rfl (by decide) ?_
  refine r_pick (lv' := [(0, rv B a0), (1, .int x1), (2, .int 0)]) [0, 1, 2] rfl ?_
  refine wl_X6_isEven_2 hd C E (fun  σ16 h => ?_) _ _ _ h
  refine r_iconst (pc := 88) (v := 1) C dX6_isEven_88 (by decide) ?_
  exact r_zretL (pc := 89) C rfl dX6_isEven_89 (Or.inr rfl) h E
theorem t_X6_isEven {F : Nat} {σ : MM} {a0 : Nat} {x1 : Int32} {r : Int32 × MM} (h : g_X6_isEven F σ a0 x1 = some r) : mT σ a0 = (5, 62) := by
  unfold g_X6_isEven at h
  exact (r_ck h).1
