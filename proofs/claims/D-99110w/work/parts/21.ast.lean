set_option maxRecDepth 100000
theorem fd_X2_17 : xFg RX2 17 1 10 2 := ⟨_, rfl, rfl, by decide, by decide, in_X2, Or.inl q160⟩
theorem ft_X2_2 : xFt 1 2 .int false := ⟨_, rfl, by decide +kernel, rfl, rfl⟩
theorem fd_X2_29 : xFg RX2 29 1 10 6 := ⟨_, rfl, rfl, by decide, by decide, in_X2, Or.inl q164⟩
theorem ft_X2_6 : xFt 1 6 .int false := ⟨_, rfl, by decide +kernel, rfl, rfl⟩
theorem fd_X2_13 : xFg RX2 13 1 10 1 := ⟨_, rfl, rfl, by decide, by decide, in_X2, Or.inl q159⟩
theorem ft_X2_1 : xFt 1 1 .int false := ⟨_, rfl, by decide +kernel, rfl, rfl⟩
theorem fd_X2_20 : xFg RX2 20 1 10 3 := ⟨_, rfl, rfl, by decide, by decide, in_X2, Or.inl q161⟩
theorem ft_X2_3 : xFt 1 3 .int false := ⟨_, rfl, by decide +kernel, rfl, rfl⟩
theorem fd_X2_23 : xFg RX2 23 1 10 4 := ⟨_, rfl, rfl, by decide, by decide, in_X2, Or.inl q162⟩
theorem ft_X2_4 : xFt 1 4 .int false := ⟨_, rfl, by decide +kernel, rfl, rfl⟩
theorem fd_X2_32 : xFg RX2 32 1 10 7 := ⟨_, rfl, rfl, by decide, by decide, in_X2, Or.inl q165⟩
theorem ft_X2_7 : xFt 1 7 .int false := ⟨_, rfl, by decide +kernel, rfl, rfl⟩
theorem fd_X2_26 : xFg RX2 26 1 10 5 := ⟨_, rfl, rfl, by decide, by decide, in_X2, Or.inl q163⟩
theorem ft_X2_5 : xFt 1 5 .int false := ⟨_, rfl, by decide +kernel, rfl, rfl⟩
theorem fd_X2_35 : xFg RX2 35 1 10 8 := ⟨_, rfl, rfl, by decide, by decide, in_X2, Or.inl q166⟩
theorem ft_X2_8 : xFt 1 8 .int false := ⟨_, rfl, by decide +kernel, rfl, rfl⟩
def g_X2_value (F : Nat) (σ : MM) (a0 : Nat) (x1 : Int32) : Option (Int32 × MM) := if mT σ a0 = (1, 10) then (if x1 = 99 then ((gI σ a0 1 10 2).bind fun v1 => some (v1, σ)) else if x1 = 103 then ((gI σ a0 1 10 6).bind fun v2 => some (v2, σ)) else if x1 = 104 then ((gI σ a0 1 10 1).bind fun v3 => some (v3, σ)) else if x1 = 110 then ((gI σ a0 1 10 3).bind fun v4 => some (v4, σ)) else if x1 = 111 then ((gI σ a0 1 10 4).bind fun v5 => some (v5, σ)) else if x1 = 116 then ((gI σ a0 1 10 7).bind fun v6 => some (v6, σ)) else if x1 = 119 then ((gI σ a0 1 10 5).bind fun v7 => some (v7, σ)) else ((gI σ a0 1 10 8).bind fun v8 => some (v8, σ))) else none
theorem w_X2_value {B F : Nat} {d : Nat} {σ : MM} {a0 : Nat} {x1 : Int32} {rf : Int32} {σf : MM} (hd : 0 ≤ d) (h : g_X2_value F σ a0 x1 = some (rf, σf)) : xMA B yX2_value cX2_value 2 (some .int) d 0 0 [rv B a0, .int x1] σ (some (.int rf)) σf := by
  refine xMA.of (by decide +kernel) (Nat.le_of_ble_eq_true rfl) (cat_rv (cat_int cat_nil)) (fun G C E => ?_)
  unfold g_X2_value at h
  obtain ⟨-, h⟩ := r_ck h
  refine r_iload_n (pc := 0) (i := 1) C dX2_value_0 rfl rfl ?_
  by_cases c0_1 : x1 = 99
  · rw [if_pos c0_1] at h
    refine r_tswE (pc := 1) (tgt := 105) C dX2_value_1 c0_1 (by decide) (by decide) rfl (by decide) ?_
    refine r_aload_n (pc := 105) (i := 0) C dX2_value_105 rfl rfl ?_
    refine r_getI (pc := 106) C fd_X2_17 rfl dX2_value_106 h (fun v1 h => ?_)
    exact r_iret (pc := 109) C rfl dX2_value_109 h E
  rw [if_neg c0_1] at h
  by_cases c1_1 : x1 = 103
  · rw [if_pos c1_1] at h
    refine r_tswE (pc := 1) (tgt := 125) C dX2_value_1 c1_1 (by decide) (by decide) rfl (by decide) ?_
    refine r_aload_n (pc := 125) (i := 0) C dX2_value_125 rfl rfl ?_
    refine r_getI (pc := 126) C fd_X2_29 rfl dX2_value_126 h (fun v2 h => ?_)
    exact r_iret (pc := 129) C rfl dX2_value_129 h E
  rw [if_neg c1_1] at h
  by_cases c2_1 : x1 = 104
  · rw [if_pos c2_1] at h
    refine r_tswE (pc := 1) (tgt := 100) C dX2_value_1 c2_1 (by decide) (by decide) rfl (by decide) ?_
    refine r_aload_n (pc := 100) (i := 0) C dX2_value_100 rfl rfl ?_
    refine r_getI (pc := 101) C fd_X2_13 rfl dX2_value_101 h (fun v3 h => ?_)
    exact r_iret (pc := 104) C rfl dX2_value_104 h E
  rw [if_neg c2_1] at h
  by_cases c3_1 : x1 = 110
  · rw [if_pos c3_1] at h
    refine r_tswE (pc := 1) (tgt := 110) C dX2_value_1 c3_1 (by decide) (by decide) rfl (by decide) ?_
    refine r_aload_n (pc := 110) (i := 0) C dX2_value_110 rfl rfl ?_
    refine r_getI (pc := 111) C fd_X2_20 rfl dX2_value_111 h (fun v4 h => ?_)
    exact r_iret (pc := 114) C rfl dX2_value_114 h E
  rw [if_neg c3_1] at h
  by_cases c4_1 : x1 = 111
  · rw [if_pos c4_1] at h
    refine r_tswE (pc := 1) (tgt := 115) C dX2_value_1 c4_1 (by decide) (by decide) rfl (by decide) ?_
    refine r_aload_n (pc := 115) (i := 0) C dX2_value_115 rfl rfl ?_
    refine r_getI (pc := 116) C fd_X2_23 rfl dX2_value_116 h (fun v5 h => ?_)
    exact r_iret (pc := 119) C rfl dX2_value_119 h E
  rw [if_neg c4_1] at h
  by_cases c5_1 : x1 = 116
  · rw [if_pos c5_1] at h
    refine r_tswE (pc := 1) (tgt := 130) C dX2_value_1 c5_1 (by decide) (by decide) rfl (by decide) ?_
    refine r_aload_n (pc := 130) (i := 0) C dX2_value_130 rfl rfl ?_
    refine r_getI (pc := 131) C fd_X2_32 rfl dX2_value_131 h (fun v6 h => ?_)
    exact r_iret (pc := 134) C rfl dX2_value_134 h E
  rw [if_neg c5_1] at h
  by_cases c6_1 : x1 = 119
  · rw [if_pos c6_1] at h
    refine r_tswE (pc := 1) (tgt := 120) C dX2_value_1 c6_1 (by decide) (by decide) rfl (by decide) ?_
    refine r_aload_n (pc := 120) (i := 0) C dX2_value_120 rfl rfl ?_
    refine r_getI (pc := 121) C fd_X2_26 rfl dX2_value_121 h (fun v7 h => ?_)
    exact r_iret (pc := 124) C rfl dX2_value_124 h E
  rw [if_neg c6_1] at h
  refine r_dfl (st := []) (tgt := 135) (pc := 1) ?_ (fun hD => ?_)
  · refine r_aload_n (pc := 135) (i := 0) C dX2_value_135 rfl rfl ?_
    refine r_getI (pc := 136) C fd_X2_35 rfl dX2_value_136 h (fun v8 h => ?_)
    exact r_iret (pc := 139) C rfl dX2_value_139 h E
  by_cases e1_1 : x1 = 100
  · exact r_tswE (pc := 1) (tgt := 135) C dX2_value_1 e1_1 (by decide) (by decide) rfl (by decide) hD
  by_cases e2_1 : x1 = 101
  · exact r_tswE (pc := 1) (tgt := 135) C dX2_value_1 e2_1 (by decide) (by decide) rfl (by decide) hD
  by_cases e3_1 : x1 = 102
  · exact r_tswE (pc := 1) (tgt := 135) C dX2_value_1 e3_1 (by decide) (by decide) rfl (by decide) hD
  by_cases e6_1 : x1 = 105
  · exact r_tswE (pc := 1) (tgt := 135) C dX2_value_1 e6_1 (by decide) (by decide) rfl (by decide) hD
  by_cases e7_1 : x1 = 106
  · exact r_tswE (pc := 1) (tgt := 135) C dX2_value_1 e7_1 (by decide) (by decide) rfl (by decide) hD
  by_cases e8_1 : x1 = 107
  · exact r_tswE (pc := 1) (tgt := 135) C dX2_value_1 e8_1 (by decide) (by decide) rfl (by decide) hD
  by_cases e9_1 : x1 = 108
  · exact r_tswE (pc := 1) (tgt := 135) C dX2_value_1 e9_1 (by decide) (by decide) rfl (by decide) hD
  by_cases e10_1 : x1 = 109
  · exact r_tswE (pc := 1) (tgt := 135) C dX2_value_1 e10_1 (by decide) (by decide) rfl (by decide) hD
  by_cases e13_1 : x1 = 112
  · exact r_tswE (pc := 1) (tgt := 135) C dX2_value_1 e13_1 (by decide) (by decide) rfl (by decide) hD
  by_cases e14_1 : x1 = 113
  · exact r_tswE (pc := 1) (tgt := 135) C dX2_value_1 e14_1 (by decide) (by decide) rfl (by decide) hD
  by_cases e15_1 : x1 = 114
  · exact r_tswE (pc := 1) (tgt := 135) C dX2_value_1 e15_1 (by decide) (by decide) rfl (by decide) hD
  by_cases e16_1 : x1 = 115
  · exact r_tswE (pc := 1) (tgt := 135) C dX2_value_1 e16_1 (by decide) (by decide) rfl (by decide) hD
  by_cases e18_1 : x1 = 117
  · exact r_tswE (pc := 1) (tgt := 135) C dX2_value_1 e18_1 (by decide) (by decide) rfl (by decide) hD
  by_cases e19_1 : x1 = 118
  · exact r_tswE (pc := 1) (tgt := 135) C dX2_value_1 e19_1 (by decide) (by decide) rfl (by decide) hD
  have n0_1 := tsw_ne (i := 99) c0_1 (by decide)
  have n1_1 := tsw_ne (i := 103) c1_1 (by decide)
  have n2_1 := tsw_ne (i := 104) c2_1 (by decide)
  have n3_1 := tsw_ne (i := 110) c3_1 (by decide)
  have n4_1 := tsw_ne (i := 111) c4_1 (by decide)
  have n5_1 := tsw_ne (i := 116) c5_1 (by decide)
  have n6_1 := tsw_ne (i := 119) c6_1 (by decide)
  have m1_1 := tsw_ne (i := 100) e1_1 (by decide)
  have m2_1 := tsw_ne (i := 101) e2_1 (by decide)
  have m3_1 := tsw_ne (i := 102) e3_1 (by decide)
  have m6_1 := tsw_ne (i := 105) e6_1 (by decide)
  have m7_1 := tsw_ne (i := 106) e7_1 (by decide)
  have m8_1 := tsw_ne (i := 107) e8_1 (by decide)
  have m9_1 := tsw_ne (i := 108) e9_1 (by decide)
  have m10_1 := tsw_ne (i := 109) e10_1 (by decide)
  have m13_1 := tsw_ne (i := 112) e13_1 (by decide)
  have m14_1 := tsw_ne (i := 113) e14_1 (by decide)
  have m15_1 := tsw_ne (i := 114) e15_1 (by decide)
  have m16_1 := tsw_ne (i := 115) e16_1 (by decide)
  have m18_1 := tsw_ne (i := 117) e18_1 (by decide)
  have m19_1 := tsw_ne (i := 118) e19_1 (by decide)
  exact r_tswO (pc := 1) (tgt := 135) C dX2_value_1 (by omega) (by decide) hD
theorem t_X2_value {F : Nat} {σ : MM} {a0 : Nat} {x1 : Int32} {r : Int32 × MM} (h : g_X2_value F σ a0 x1 = some r) : mT σ a0 = (1, 10) := by
  unfold g_X2_value at h
  exact (r_ck h).1
theorem fd_X10_7 : xFg RX10 7 8 1 0 := ⟨_, rfl, rfl, by decide, by decide, in_X10, Or.inl q596⟩
theorem ft_X10_0 : xFt 8 0 .int true := ⟨_, rfl, by decide +kernel, rfl, rfl⟩
def g_X10_worth (F : Nat) (σ : MM) (a0 : Nat) (a1 : Nat) : Option (Int32 × MM) := if mT σ a0 = (8, 1) then ((gI σ a0 8 1 0).bind fun v1 => some (v1, σ)) else none
theorem w_X10_worth {B F : Nat} {d : Nat} {σ : MM} {a0 : Nat} {a1 : Nat} {rf : Int32} {σf : MM} (hd : 0 ≤ d) (h : g_X10_worth F σ a0 a1 = some (rf, σf)) : xMA B yX10_worth cX10_worth 2 (some .int) d 0 0 [rv B a0, rv B a1] σ (some (.int rf)) σf := by
  refine xMA.of (by decide +kernel) (Nat.le_of_ble_eq_true rfl) (cat_rv (cat_rv cat_nil)) (fun G C E => ?_)
  unfold g_X10_worth at h
  obtain ⟨-, h⟩ := r_ck h
  refine r_aload_n (pc := 0) (i := 0) C dX10_worth_0 rfl rfl ?_
  refine r_getI (pc := 1) C fd_X10_7 rfl dX10_worth_1 h (fun v1 h => ?_)
  exact r_iret (pc := 4) C rfl dX10_worth_4 h E
theorem t_X10_worth {F : Nat} {σ : MM} {a0 : Nat} {a1 : Nat} {r : Int32 × MM} (h : g_X10_worth F σ a0 a1 = some r) : mT σ a0 = (8, 1) := by
  unfold g_X10_worth at h
  exact (r_ck h).1
theorem fd_X11_7 : xFg RX11 7 9 1 0 := ⟨_, rfl, rfl, by decide, by decide, in_X11, Or.inl q607⟩
theorem ft_X11_0 : xFt 9 0 .int true := ⟨_, rfl, by decide +kernel, rfl, rfl⟩
theorem cu_X11_13_X2_value_X2 : xCU RX11 13 yX2_value cX2_value 2 (some .int) 1 10 1 := ⟨by decide, by decide, _, ⟨"OneCoin$Asked", "value", "(I)I"⟩, "OneCoin$Asked", rfl, lw_U q973 q975 q976 q977 q118 q978, ⟨by decide +kernel, by decide +kernel, by decide +kernel⟩, in_nest q974 rfl⟩
def g_X11_worth (F : Nat) (σ : MM) (a0 : Nat) (a1 : Nat) : Option (Int32 × MM) := if mT σ a0 = (9, 1) then ((gI σ a0 9 1 0).bind fun v1 => bq (g_X2_value F σ a1 v1) fun v3 σ2 => some (v3, σ2)) else none
theorem w_X11_worth {B F : Nat} {d : Nat} {σ : MM} {a0 : Nat} {a1 : Nat} {rf : Int32} {σf : MM} (hd : 1 ≤ d) (h : g_X11_worth F σ a0 a1 = some (rf, σf)) : xMA B yX11_worth cX11_worth 2 (some .int) d 0 0 [rv B a0, rv B a1] σ (some (.int rf)) σf := by
  refine xMA.of (by decide +kernel) (Nat.le_of_ble_eq_true rfl) (cat_rv (cat_rv cat_nil)) (fun G C E => ?_)
  unfold g_X11_worth at h
  obtain ⟨-, h⟩ := r_ck h
  refine r_aload_n (pc := 0) (i := 1) C dX11_worth_0 rfl rfl ?_
  refine r_aload_n (pc := 1) (i := 0) C dX11_worth_1 rfl rfl ?_
  refine r_getI (pc := 2) C fd_X11_7 rfl dX11_worth_2 h (fun v1 h => ?_)
  refine r_callUI (pc := 5) (As := [.int v1]) (st := []) C h (fun _ _ e => ⟨_, _, _, _, _, _, Or.inl cu_X11_13_X2_value_X2, t_X2_value e, w_X2_value (Nat.le_refl 0) e⟩) (Nat.le_trans (Nat.le_of_ble_eq_true rfl) hd) (Nat.le_of_ble_eq_true rfl) dX11_worth_5 (fun v3 σ2 h => ?_)
  exact r_iret (pc := 8) C rfl dX11_worth_8 h E
theorem t_X11_worth {F : Nat} {σ : MM} {a0 : Nat} {a1 : Nat} {r : Int32 × MM} (h : g_X11_worth F σ a0 a1 = some r) : mT σ a0 = (9, 1) := by
  unfold g_X11_worth at h
  exact (r_ck h).1
theorem fd_X9_17 : xFg RX9 17 1 10 0 := ⟨_, rfl, rfl, by decide, by decide, in_X2, Or.inr ⟨_, in_nest q169 rfl⟩⟩
theorem ft_X2_0 : xFt 1 0 .boolean false := ⟨_, rfl, by decide +kernel, rfl, rfl⟩
def g_X9_worked (F : Nat) (σ : MM) (x0 : Int32) (x1 : Int32) (x2 : Int32) (a3 : Nat) : Option (Int32 × MM) := if x0 = 42 then (some ((x1 * x2), σ)) else if x0 = 43 then (some ((x1 + x2), σ)) else if x0 = 45 then (some ((x1 - x2), σ)) else (jn (fun (σ1 : MM) => if x2 = 0 then (some (0, σ1)) else (if x0 = 47 then ((dv x1 x2).bind fun v4 => some (v4, σ1)) else ((rm_ x1 x2).bind fun v3 => some (v3, σ1)))) (fun k2 => if x2 = 0 then ((pZ σ a3 1 10 0 1).bind fun σ5 => k2 σ5) else (k2 σ)))
theorem w_X9_worked {B F : Nat} {d : Nat} {σ : MM} {x0 : Int32} {x1 : Int32} {x2 : Int32} {a3 : Nat} {rf : Int32} {σf : MM} (hd : 0 ≤ d) (h : g_X9_worked F σ x0 x1 x2 a3 = some (rf, σf)) : xMA B yX9_worked cX9_worked 4 (some .int) d 0 0 [.int x0, .int x1, .int x2, rv B a3] σ (some (.int rf)) σf := by
  refine xMA.of (by decide +kernel) (Nat.le_of_ble_eq_true rfl) (cat_int (cat_int (cat_int (cat_rv cat_nil)))) (fun G C E => ?_)
  unfold g_X9_worked at h
  refine r_iload_n (pc := 0) (i := 0) C dX9_worked_0 rfl rfl ?_
  by_cases c0_1 : x0 = 42
  · rw [if_pos c0_1] at h
    refine r_tswE (pc := 1) (tgt := 40) C dX9_worked_1 c0_1 (by decide) (by decide) rfl (by decide) ?_
    refine r_iload_n (pc := 40) (i := 1) C dX9_worked_40 rfl rfl ?_
    refine r_iload_n (pc := 41) (i := 2) C dX9_worked_41 rfl rfl ?_
    refine r_imul (pc := 42) C dX9_worked_42 ?_
    exact r_iret (pc := 43) C rfl dX9_worked_43 h E
  rw [if_neg c0_1] at h
  by_cases c1_1 : x0 = 43
  · rw [if_pos c1_1] at h
    refine r_tswE (pc := 1) (tgt := 32) C dX9_worked_1 c1_1 (by decide) (by decide) rfl (by decide) ?_
    refine r_iload_n (pc := 32) (i := 1) C dX9_worked_32 rfl rfl ?_
    refine r_iload_n (pc := 33) (i := 2) C dX9_worked_33 rfl rfl ?_
    refine r_iadd (pc := 34) C dX9_worked_34 ?_
    exact r_iret (pc := 35) C rfl dX9_worked_35 h E
  rw [if_neg c1_1] at h
  by_cases c2_1 : x0 = 45
  · rw [if_pos c2_1] at h
    refine r_tswE (pc := 1) (tgt := 36) C dX9_worked_1 c2_1 (by decide) (by decide) rfl (by decide) ?_
    refine r_iload_n (pc := 36) (i := 1) C dX9_worked_36 rfl rfl ?_
    refine r_iload_n (pc := 37) (i := 2) C dX9_worked_37 rfl rfl ?_
    refine r_isub (pc := 38) C dX9_worked_38 ?_
    exact r_iret (pc := 39) C rfl dX9_worked_39 h E
  rw [if_neg c2_1] at h
  refine r_dfl (st := []) (tgt := 44) (pc := 1) ?_ (fun hD => ?_)
  · refine r_iload_n (pc := 44) (i := 2) C dX9_worked_44 rfl rfl ?_
    refine r_jn (fun k9 => ∀  (σ1 : MM), k9 σ1 = some (rf, σf) → xV B G 0 0 σ1 53 [(0, .int x0), (1, .int x1), (2, .int x2)] []) h (fun  σ1 h => ?_) (fun k2 hk2 h => ?_)
    · refine r_iload_n (pc := 53) (i := 2) C dX9_worked_53 rfl rfl ?_
      refine r_ifne (pc := 54) (tgt := 61) C dX9_worked_54 (by decide) h (fun h => ?_) (fun h => ?_)
      · refine r_iload_n (pc := 61) (i := 0) C dX9_worked_61 rfl rfl ?_
        refine r_bipush (pc := 62) (v := 47) C dX9_worked_62 (by decide) ?_
        refine r_icmpne (pc := 64) (tgt := 73) C dX9_worked_64 (by decide) h (fun h => ?_) (fun h => ?_)
        · refine r_iload_n (pc := 73) (i := 1) C dX9_worked_73 rfl rfl ?_
          refine r_iload_n (pc := 74) (i := 2) C dX9_worked_74 rfl rfl ?_
          refine r_irem (pc := 75) C dX9_worked_75 h (fun v3 h => ?_)
          exact r_iret (pc := 76) C rfl dX9_worked_76 h E
        · refine r_iload_n (pc := 67) (i := 1) C dX9_worked_67 rfl rfl ?_
          refine r_iload_n (pc := 68) (i := 2) C dX9_worked_68 rfl rfl ?_
          refine r_idiv (pc := 69) C dX9_worked_69 h (fun v4 h => ?_)
          refine r_goto (pc := 70) (tgt := 76) C dX9_worked_70 (by decide) ?_
          exact r_iret (pc := 76) C rfl dX9_worked_76 h E
      · refine r_iconst (pc := 57) (v := 0) C dX9_worked_57 (by decide) ?_
        refine r_goto (pc := 58) (tgt := 76) C dX9_worked_58 (by decide) ?_
        exact r_iret (pc := 76) C rfl dX9_worked_76 h E
    · refine r_ifne (pc := 45) (tgt := 53) C dX9_worked_45 (by decide) h (fun h => ?_) (fun h => ?_)
      · refine r_pick (lv' := [(0, .int x0), (1, .int x1), (2, .int x2)]) [0, 1, 2] rfl ?_
        exact hk2 _ h
      · refine r_aload_n (pc := 48) (i := 3) C dX9_worked_48 rfl rfl ?_
        refine r_iconst (pc := 49) (v := 1) C dX9_worked_49 (by decide) ?_
        refine r_putZ (pc := 50) C fd_X9_17 ft_X2_0 dX9_worked_50 h (fun σ5 h => ?_)
        refine r_pick (lv' := [(0, .int x0), (1, .int x1), (2, .int x2)]) [0, 1, 2] rfl ?_
        exact hk2 _ h
  by_cases e2_1 : x0 = 44
  · exact r_tswE (pc := 1) (tgt := 44) C dX9_worked_1 e2_1 (by decide) (by decide) rfl (by decide) hD
  have n0_1 := tsw_ne (i := 42) c0_1 (by decide)
  have n1_1 := tsw_ne (i := 43) c1_1 (by decide)
  have n2_1 := tsw_ne (i := 45) c2_1 (by decide)
  have m2_1 := tsw_ne (i := 44) e2_1 (by decide)
  exact r_tswO (pc := 1) (tgt := 44) C dX9_worked_1 (by omega) (by decide) hD
def ds_worth (own : String) (index : Nat) : Prop := xCU own index yX9_worth cX9_worth 4 (some .int) 7 3 1 ∧ xCU own index yX10_worth cX10_worth 2 (some .int) 8 1 1 ∧ xCU own index yX11_worth cX11_worth 2 (some .int) 9 1 1
theorem fd_X9_13 : xFg RX9 13 7 3 1 := ⟨_, rfl, rfl, by decide, by decide, in_X9, Or.inl q616⟩
theorem ft_X9_1 : xFt 7 1 (.object "OneCoin$Sum") true := ⟨_, rfl, by decide +kernel, rfl, rfl⟩
theorem cu_X9_23_X9_worth_X9 : xCU RX9 23 yX9_worth cX9_worth 4 (some .int) 7 3 1 := ⟨by decide, by decide, _, ⟨"OneCoin$Sum", "worth", "(LOneCoin$Asked;)I"⟩, "OneCoin$Sum", rfl, lw_U q985 q969 q982 q983 q131 q984, ⟨by decide +kernel, by decide +kernel, by decide +kernel⟩, in_nest q968 rfl⟩
theorem cu_X9_23_X10_worth_X10 : xCU RX9 23 yX10_worth cX10_worth 2 (some .int) 8 1 1 := ⟨by decide, by decide, _, ⟨"OneCoin$Sum", "worth", "(LOneCoin$Asked;)I"⟩, "OneCoin$Sum", rfl, lw_U q985 q969 q979 q980 q132 q981, ⟨by decide +kernel, by decide +kernel, by decide +kernel⟩, in_nest q968 rfl⟩
theorem cu_X9_23_X11_worth_X11 : xCU RX9 23 yX11_worth cX11_worth 2 (some .int) 9 1 1 := ⟨by decide, by decide, _, ⟨"OneCoin$Sum", "worth", "(LOneCoin$Asked;)I"⟩, "OneCoin$Sum", rfl, lw_U q985 q969 q970 q971 q133 q972, ⟨by decide +kernel, by decide +kernel, by decide +kernel⟩, in_nest q968 rfl⟩
theorem ds_X9_23 : ds_worth RX9 23 := ⟨cu_X9_23_X9_worth_X9, cu_X9_23_X10_worth_X10, cu_X9_23_X11_worth_X11⟩
theorem fd_X9_27 : xFg RX9 27 7 3 2 := ⟨_, rfl, rfl, by decide, by decide, in_X9, Or.inl q617⟩
theorem ft_X9_2 : xFt 7 2 (.object "OneCoin$Row") false := ⟨_, rfl, by decide +kernel, rfl, rfl⟩
theorem fd_X9_7 : xFg RX9 7 7 3 0 := ⟨_, rfl, rfl, by decide, by decide, in_X9, Or.inl q615⟩
theorem ft_X9_0 : xFt 7 0 .int true := ⟨_, rfl, by decide +kernel, rfl, rfl⟩
theorem yd_X9_worked : xYd yX9_worked 4 := ⟨by decide +kernel, by decide +kernel, by decide +kernel⟩
theorem cs_X9_31_X9_worked : xCS RX9 31 yX9_worked cX9_worked 4 (some .int) 4 := ⟨by decide, yd_X9_worked, Or.inl (lw_S q986 q987 q131 q988)⟩
def l_X9_worth_14 (rec : MM → Nat → Nat → Option (Int32 × MM)) (K : Int32 → MM → Option (Int32 × MM)) (F : Nat) (a1 : Nat) : Nat → Int32 → Nat → MM → Option (Int32 × MM)
  | 0, _, _, _ => none
  | f + 1, z2, b3, σ => if b3 = 0 then (K z2 σ) else ((gI σ b3 7 3 0).bind fun v5 => (gP σ b3 7 3 1).bind fun p6 => bq (rec σ p6 a1) fun v8 σ7 => bq (g_X9_worked F σ7 v5 z2 v8 a1) fun v10 σ9 => (gP σ9 b3 7 3 2).bind fun p11 => l_X9_worth_14 rec K F a1 f v10 p11 σ9)
def s_X9_worth (F : Nat) (rec : MM → Nat → Nat → Option (Int32 × MM)) (σ : MM) (a0 : Nat) (a1 : Nat) : Option (Int32 × MM) := if mT σ a0 = (7, 3) then ((gP σ a0 7 3 1).bind fun p1 => bq (rec σ p1 a1) fun v3 σ2 => (gP σ2 a0 7 3 2).bind fun p4 => l_X9_worth_14 rec (fun (r2_13 : Int32) (σ12 : MM) => some (r2_13, σ12)) F a1 F v3 p4 σ2) else none
theorem wl_X9_worth_14 {B : Nat} {G : XG} {d : Nat} {rf : Int32} {σf : MM} {rec : MM → Nat → Nat → Option (Int32 × MM)} {dr : Nat} (hrec : ∀ (own : String) (index : Nat), ds_worth own index → ∀ (σ : MM) (b0 b1 : Nat) (v : Int32) (σ' : MM), rec σ b0 b1 = some (v, σ') → xDsp B own index 1 dr σ b0 [rv B b1] (some (.int v)) σ') (hd : dr + 1 ≤ d) (hd2 : 1 ≤ d) (C : xC B G yX9_worth cX9_worth 4 (some .int) d 0 0) (E : xEnd B G (some (.int rf)) σf 0 0) {K : Int32 → MM → Option (Int32 × MM)} {F : Nat} {a1 : Nat} (hK : ∀ (q2 : Int32) (σ : MM), K q2 σ = some (rf, σf) → xV B G 0 0 σ 44 [(2, .int q2)] []) : ∀ (f : Nat) (z2 : Int32) (b3 : Nat) (σ : MM), l_X9_worth_14 rec K F a1 f z2 b3 σ = some (rf, σf) → xV B G 0 0 σ 14 [(1, rv B a1), (2, .int z2), (3, rv B b3)] [] := by
  intro f
  induction f with
  | zero =>
    intro z2 b3 σ h
    have h : none = some (rf, σf) := h
    cases h
  | succ f ih =>
    intro z2 b3 σ h
    rw [l_X9_worth_14.eq_2] at h
    refine r_aload_n (pc := 14) (i := 3) C dX9_worth_14 rfl rfl ?_
    refine r_ifnull (pc := 15) (tgt := 44) C dX9_worth_15 (by decide) h (fun h => ?_) (fun h => ?_)
    · refine r_pick (lv' := [(2, .int z2)]) [2] rfl ?_
      exact hK _ _ h
    · refine r_aload_n (pc := 18) (i := 3) C dX9_worth_18 rfl rfl ?_
      refine r_getI (pc := 19) C fd_X9_7 rfl dX9_worth_19 h (fun v5 h => ?_)
      refine r_iload_n (pc := 22) (i := 2) C dX9_worth_22 rfl rfl ?_
      refine r_aload_n (pc := 23) (i := 3) C dX9_worth_23 rfl rfl ?_
      refine r_getP (pc := 24) C fd_X9_13 rfl dX9_worth_24 h (fun p6 h => ?_)
      refine r_aload_n (pc := 27) (i := 1) C dX9_worth_27 rfl rfl ?_
      refine r_callUI (pc := 28) (As := [rv B a1]) (st := [.int z2, .int v5]) C h (fun _ _ e => hrec _ _ ds_X9_23 _ _ _ _ _ e) (by omega) (Nat.le_of_ble_eq_true rfl) dX9_worth_28 (fun v8 σ7 h => ?_)
      refine r_aload_n (pc := 31) (i := 1) C dX9_worth_31 rfl rfl ?_
      refine r_callSI (pc := 32) (As := [.int v5, .int z2, .int v8, rv B a1]) (st := []) C cs_X9_31_X9_worked h (fun _ _ e => w_X9_worked (Nat.le_refl 0) e) (by omega) (Nat.le_of_ble_eq_true rfl) dX9_worth_32 (fun v10 σ9 h => ?_)
      refine r_istore_n (pc := 35) (i := 2) C dX9_worth_35 rfl (by decide) ?_
      refine r_aload_n (pc := 36) (i := 3) C dX9_worth_36 rfl rfl ?_
      refine r_getP (pc := 37) C fd_X9_27 rfl dX9_worth_37 h (fun p11 h => ?_)
      refine r_astore_n (pc := 40) (i := 3) C dX9_worth_40 rfl (by decide) ?_
      refine r_goto (pc := 41) (tgt := 14) C dX9_worth_41 (by decide) ?_
      refine r_pick (lv' := [(1, rv B a1), (2, .int v10), (3, rv B p11)]) [1, 2, 3] rfl ?_
      exact ih _ _ _ h
theorem ws_X9_worth {B F : Nat} {d : Nat} {σ : MM} {a0 : Nat} {a1 : Nat} {rf : Int32} {σf : MM} {rec : MM → Nat → Nat → Option (Int32 × MM)} {dr : Nat} (hrec : ∀ (own : String) (index : Nat), ds_worth own index → ∀ (σ : MM) (b0 b1 : Nat) (v : Int32) (σ' : MM), rec σ b0 b1 = some (v, σ') → xDsp B own index 1 dr σ b0 [rv B b1] (some (.int v)) σ') (hd : dr + 1 ≤ d) (hd2 : 1 ≤ d) (h : s_X9_worth F rec σ a0 a1 = some (rf, σf)) : xMA B yX9_worth cX9_worth 4 (some .int) d 0 0 [rv B a0, rv B a1] σ (some (.int rf)) σf := by
  refine xMA.of (by decide +kernel) (Nat.le_of_ble_eq_true rfl) (cat_rv (cat_rv cat_nil)) (fun G C E => ?_)
  unfold s_X9_worth at h
  obtain ⟨-, h⟩ := r_ck h
  refine r_aload_n (pc := 0) (i := 0) C dX9_worth_0 rfl rfl ?_
  refine r_getP (pc := 1) C fd_X9_13 rfl dX9_worth_1 h (fun p1 h => ?_)
  refine r_aload_n (pc := 4) (i := 1) C dX9_worth_4 rfl rfl ?_
  refine r_callUI (pc := 5) (As := [rv B a1]) (st := []) C h (fun _ _ e => hrec _ _ ds_X9_23 _ _ _ _ _ e) (by omega) (Nat.le_of_ble_eq_true rfl) dX9_worth_5 (fun v3 σ2 h => ?_)
  refine r_istore_n (pc := 8) (i := 2) C dX9_worth_8 rfl (by decide) ?_
  refine r_aload_n (pc := 9) (i := 0) C dX9_worth_9 rfl rfl ?_
  refine r_getP (pc := 10) C fd_X9_27 rfl dX9_worth_10 h (fun p4 h => ?_)
  refine r_astore_n (pc := 13) (i := 3) C dX9_worth_13 rfl (by decide) ?_
  refine r_pick (lv' := [(1, rv B a1), (2, .int v3), (3, rv B p4)]) [1, 2, 3] rfl ?_
  refine wl_X9_worth_14 hrec hd hd2 C E (fun r2_13 σ12 h => ?_) _ _ _ _ h
  refine r_iload_n (pc := 44) (i := 2) C dX9_worth_44 rfl rfl ?_
  exact r_iret (pc := 45) C rfl dX9_worth_45 h E
theorem ts_X9_worth {F : Nat} {rec : MM → Nat → Nat → Option (Int32 × MM)} {σ : MM} {a0 : Nat} {a1 : Nat} {r : Int32 × MM} (h : s_X9_worth F rec σ a0 a1 = some r) : mT σ a0 = (7, 3) := by
  unfold s_X9_worth at h
  exact (r_ck h).1
def v_worth (F : Nat) : Nat → MM → Nat → Nat → Option (Int32 × MM)
  | 0, _, _, _ => none
  | f + 1, σ, a0, a1 => if (mT σ a0).1 = 7 then s_X9_worth F (v_worth F f) σ a0 a1 else if (mT σ a0).1 = 8 then g_X10_worth F σ a0 a1 else g_X11_worth F σ a0 a1
theorem w_v_worth {B F : Nat} : ∀ (f : Nat) (own : String) (index : Nat), ds_worth own index → ∀ (σ : MM) (a0 a1 : Nat) (v : Int32) (σ' : MM), v_worth F f σ a0 a1 = some (v, σ') → xDsp B own index 1 (1 * f + 1) σ a0 [rv B a1] (some (.int v)) σ' := by
  intro f
  induction f with
  | zero =>
    intro own index hds σ a0 a1 v σ' h
    have h : none = some (v, σ') := h
    cases h
  | succ f ih =>
    intro own index hds σ a0 a1 v σ' h
    rw [v_worth.eq_2] at h
    by_cases h0 : (mT σ a0).1 = 7
    · rw [if_pos h0] at h
      exact ⟨_, _, _, _, _, _, Or.inl hds.1, ts_X9_worth h, ws_X9_worth (dr := 1 * f + 1) ih (by omega) (by omega) h⟩
    rw [if_neg h0] at h
    by_cases h1 : (mT σ a0).1 = 8
    · rw [if_pos h1] at h
      exact ⟨_, _, _, _, _, _, Or.inl hds.2.1, t_X10_worth h, w_X10_worth (by omega) h⟩
    rw [if_neg h1] at h
    exact ⟨_, _, _, _, _, _, Or.inl hds.2.2, t_X11_worth h, w_X11_worth (by omega) h⟩
def g_X9_worth (F : Nat) (σ : MM) (a0 : Nat) (a1 : Nat) : Option (Int32 × MM) := s_X9_worth F (v_worth F 64) σ a0 a1
theorem w_X9_worth {B F d : Nat} {σ : MM} {a0 a1 : Nat} {rf : Int32} {σf : MM} (hd : 66 ≤ d) (h : g_X9_worth F σ a0 a1 = some (rf, σf)) : xMA B yX9_worth cX9_worth 4 (some .int) d 0 0 [rv B a0, rv B a1] σ (some (.int rf)) σf := ws_X9_worth (dr := 65) (w_v_worth 64) (by omega) (by omega) h
theorem t_X9_worth {F : Nat} {σ : MM} {a0 a1 : Nat} {r : Int32 × MM} (h : g_X9_worth F σ a0 a1 = some r) : mT σ a0 = (7, 3) := ts_X9_worth h
theorem fd_X15_20 : xFg RX15 20 1 10 0 := ⟨_, rfl, rfl, by decide, by decide, in_X2, Or.inr ⟨_, in_nest q168 rfl⟩⟩
theorem fd_X15_7 : xFg RX15 7 12 3 0 := ⟨_, rfl, rfl, by decide, by decide, in_X15, Or.inl q659⟩
theorem ft_X15_0 : xFt 12 0 (.object "OneCoin$Sum") true := ⟨_, rfl, by decide +kernel, rfl, rfl⟩
theorem cu_X15_26_X9_worth_X9 : xCU RX15 26 yX9_worth cX9_worth 4 (some .int) 7 3 1 := ⟨by decide, by decide, _, ⟨"OneCoin$Sum", "worth", "(LOneCoin$Asked;)I"⟩, "OneCoin$Sum", rfl, lw_U q967 q969 q982 q983 q131 q984, ⟨by decide +kernel, by decide +kernel, by decide +kernel⟩, in_nest q968 rfl⟩
theorem cu_X15_26_X10_worth_X10 : xCU RX15 26 yX10_worth cX10_worth 2 (some .int) 8 1 1 := ⟨by decide, by decide, _, ⟨"OneCoin$Sum", "worth", "(LOneCoin$Asked;)I"⟩, "OneCoin$Sum", rfl, lw_U q967 q969 q979 q980 q132 q981, ⟨by decide +kernel, by decide +kernel, by decide +kernel⟩, in_nest q968 rfl⟩
theorem cu_X15_26_X11_worth_X11 : xCU RX15 26 yX11_worth cX11_worth 2 (some .int) 9 1 1 := ⟨by decide, by decide, _, ⟨"OneCoin$Sum", "worth", "(LOneCoin$Asked;)I"⟩, "OneCoin$Sum", rfl, lw_U q967 q969 q970 q971 q133 q972, ⟨by decide +kernel, by decide +kernel, by decide +kernel⟩, in_nest q968 rfl⟩
theorem ds_X15_26 : ds_worth RX15 26 := ⟨cu_X15_26_X9_worth_X9, cu_X15_26_X10_worth_X10, cu_X15_26_X11_worth_X11⟩
theorem fd_X15_17 : xFg RX15 17 12 3 1 := ⟨_, rfl, rfl, by decide, by decide, in_X15, Or.inl q660⟩
theorem ft_X15_1 : xFt 12 1 (.object "OneCoin$Sum") true := ⟨_, rfl, by decide +kernel, rfl, rfl⟩
theorem fd_X15_13 : xFg RX15 13 12 3 2 := ⟨_, rfl, rfl, by decide, by decide, in_X15, Or.inl q661⟩
theorem ft_X15_2 : xFt 12 2 .int true := ⟨_, rfl, by decide +kernel, rfl, rfl⟩
def g_X15_holds (F : Nat) (σ : MM) (a0 : Nat) (a1 : Nat) : Option (Int32 × MM) := if mT σ a0 = (12, 3) then ((pZ σ a1 1 10 0 0).bind fun σ1 => (gP σ1 a0 12 3 0).bind fun p2 => bq (v_worth F 64 σ1 p2 a1) fun v4 σ3 => (gP σ3 a0 12 3 1).bind fun p5 => bq (v_worth F 64 σ3 p5 a1) fun v7 σ6 => (gI σ6 a0 12 3 2).bind fun v8 => jn (fun (w10 : Int32) (σ9 : MM) => (gI σ9 a1 1 10 0).bind fun v12 => if v12 = 0 then (if w10 = 0 then (some (0, σ9)) else (some (1, σ9))) else (some (2, σ9))) (fun k11 => if v8 = 60 then (if v4 < v7 then (k11 1 σ6) else (k11 0 σ6)) else ((gI σ6 a0 12 3 2).bind fun v13 => if v13 = 62 then (if v7 < v4 then (k11 1 σ6) else (k11 0 σ6)) else (if v4 = v7 then (k11 1 σ6) else (k11 0 σ6))))) else none
theorem w_X15_holds {B F : Nat} {d : Nat} {σ : MM} {a0 : Nat} {a1 : Nat} {rf : Int32} {σf : MM} (hd : 66 ≤ d) (h : g_X15_holds F σ a0 a1 = some (rf, σf)) : xMA B yX15_holds cX15_holds 5 (some .int) d 0 0 [rv B a0, rv B a1] σ (some (.int rf)) σf := by
  refine xMA.of (by decide +kernel) (Nat.le_of_ble_eq_true rfl) (cat_rv (cat_rv cat_nil)) (fun G C E => ?_)
  unfold g_X15_holds at h
  obtain ⟨-, h⟩ := r_ck h
  refine r_aload_n (pc := 0) (i := 1) C dX15_holds_0 rfl rfl ?_
  refine r_iconst (pc := 1) (v := 0) C dX15_holds_1 (by decide) ?_
  refine r_putZ (pc := 2) C fd_X15_20 ft_X2_0 dX15_holds_2 h (fun σ1 h => ?_)
  refine r_aload_n (pc := 5) (i := 0) C dX15_holds_5 rfl rfl ?_
  refine r_getP (pc := 6) C fd_X15_7 rfl dX15_holds_6 h (fun p2 h => ?_)
  refine r_aload_n (pc := 9) (i := 1) C dX15_holds_9 rfl rfl ?_
  refine r_callUI (pc := 10) (As := [rv B a1]) (st := []) C h (fun _ _ e => w_v_worth 64 _ _ ds_X15_26 _ _ _ _ _ e) (Nat.le_trans (Nat.le_of_ble_eq_true rfl) hd) (Nat.le_of_ble_eq_true rfl) dX15_holds_10 (fun v4 σ3 h => ?_)
  refine r_istore_n (pc := 13) (i := 2) C dX15_holds_13 rfl (by decide) ?_
  refine r_aload_n (pc := 14) (i := 0) C dX15_holds_14 rfl rfl ?_
  refine r_getP (pc := 15) C fd_X15_17 rfl dX15_holds_15 h (fun p5 h => ?_)
  refine r_aload_n (pc := 18) (i := 1) C dX15_holds_18 rfl rfl ?_
  refine r_callUI (pc := 19) (As := [rv B a1]) (st := []) C h (fun _ _ e => w_v_worth 64 _ _ ds_X15_26 _ _ _ _ _ e) (Nat.le_trans (Nat.le_of_ble_eq_true rfl) hd) (Nat.le_of_ble_eq_true rfl) dX15_holds_19 (fun v7 σ6 h => ?_)
  refine r_istore_n (pc := 22) (i := 3) C dX15_holds_22 rfl (by decide) ?_
  refine r_aload_n (pc := 23) (i := 0) C dX15_holds_23 rfl rfl ?_
  refine r_getI (pc := 24) C fd_X15_13 rfl dX15_holds_24 h (fun v8 h => ?_)
  refine r_bipush (pc := 27) (v := 60) C dX15_holds_27 (by decide) ?_
  refine r_jn (fun k9 => ∀ (w10 : Int32) (σ9 : MM), k9 w10 σ9 = some (rf, σf) → xV B G 0 0 σ9 77 [(1, rv B a1)] [.int w10]) h (fun w10 σ9 h => ?_) (fun k11 hk11 h => ?_)
  · refine r_istore (pc := 77) (i := 4) C dX15_holds_77 (by decide) ?_
    refine r_aload_n (pc := 79) (i := 1) C dX15_holds_79 rfl rfl ?_
    refine r_getI (pc := 80) C fd_X15_20 rfl dX15_holds_80 h (fun v12 h => ?_)
    refine r_ifeq (pc := 83) (tgt := 90) C dX15_holds_83 (by decide) h (fun h => ?_) (fun h => ?_)
    · refine r_iload (pc := 90) (i := 4) C dX15_holds_90 rfl ?_
      refine r_ifeq (pc := 92) (tgt := 99) C dX15_holds_92 (by decide) h (fun h => ?_) (fun h => ?_)
      · refine r_iconst (pc := 99) (v := 0) C dX15_holds_99 (by decide) ?_
        exact r_iret (pc := 100) C rfl dX15_holds_100 h E
      · refine r_iconst (pc := 95) (v := 1) C dX15_holds_95 (by decide) ?_
        refine r_goto (pc := 96) (tgt := 100) C dX15_holds_96 (by decide) ?_
        exact r_iret (pc := 100) C rfl dX15_holds_100 h E
    · refine r_iconst (pc := 86) (v := 2) C dX15_holds_86 (by decide) ?_
      refine r_goto (pc := 87) (tgt := 100) C dX15_holds_87 (by decide) ?_
      exact r_iret (pc := 100) C rfl dX15_holds_100 h E
  · refine r_icmpne (pc := 29) (tgt := 45) C dX15_holds_29 (by decide) h (fun h => ?_) (fun h => ?_)
    · refine r_aload_n (pc := 45) (i := 0) C dX15_holds_45 rfl rfl ?_
      refine r_getI (pc := 46) C fd_X15_13 rfl dX15_holds_46 h (fun v13 h => ?_)
      refine r_bipush (pc := 49) (v := 62) C dX15_holds_49 (by decide) ?_
      refine r_icmpne (pc := 51) (tgt := 67) C dX15_holds_51 (by decide) h (fun h => ?_) (fun h => ?_)
      · refine r_iload_n (pc := 67) (i := 2) C dX15_holds_67 rfl rfl ?_
        refine r_iload_n (pc := 68) (i := 3) C dX15_holds_68 rfl rfl ?_
        refine r_icmpne (pc := 69) (tgt := 76) C dX15_holds_69 (by decide) h (fun h => ?_) (fun h => ?_)
        · refine r_iconst (pc := 76) (v := 0) C dX15_holds_76 (by decide) ?_
          refine r_pick (lv' := [(1, rv B a1)]) [1] rfl ?_
          exact hk11 _ _ h
        · refine r_iconst (pc := 72) (v := 1) C dX15_holds_72 (by decide) ?_
          refine r_goto (pc := 73) (tgt := 77) C dX15_holds_73 (by decide) ?_
          refine r_pick (lv' := [(1, rv B a1)]) [1] rfl ?_
          exact hk11 _ _ h
      · refine r_iload_n (pc := 54) (i := 2) C dX15_holds_54 rfl rfl ?_
        refine r_iload_n (pc := 55) (i := 3) C dX15_holds_55 rfl rfl ?_
        refine r_icmple (pc := 56) (tgt := 63) C dX15_holds_56 (by decide) h (fun h => ?_) (fun h => ?_)
        · refine r_iconst (pc := 63) (v := 0) C dX15_holds_63 (by decide) ?_
          refine r_goto (pc := 64) (tgt := 77) C dX15_holds_64 (by decide) ?_
          refine r_pick (lv' := [(1, rv B a1)]) [1] rfl ?_
          exact hk11 _ _ h
        · refine r_iconst (pc := 59) (v := 1) C dX15_holds_59 (by decide) ?_
          refine r_goto (pc := 60) (tgt := 77) C dX15_holds_60 (by decide) ?_
          refine r_pick (lv' := [(1, rv B a1)]) [1] rfl ?_
          exact hk11 _ _ h
    · refine r_iload_n (pc := 32) (i := 2) C dX15_holds_32 rfl rfl ?_
      refine r_iload_n (pc := 33) (i := 3) C dX15_holds_33 rfl rfl ?_
      refine r_icmpge (pc := 34) (tgt := 41) C dX15_holds_34 (by decide) h (fun h => ?_) (fun h => ?_)
      · refine r_iconst (pc := 41) (v := 0) C dX15_holds_41 (by decide) ?_
        refine r_goto (pc := 42) (tgt := 77) C dX15_holds_42 (by decide) ?_
        refine r_pick (lv' := [(1, rv B a1)]) [1] rfl ?_
        exact hk11 _ _ h
      · refine r_iconst (pc := 37) (v := 1) C dX15_holds_37 (by decide) ?_
        refine r_goto (pc := 38) (tgt := 77) C dX15_holds_38 (by decide) ?_
        refine r_pick (lv' := [(1, rv B a1)]) [1] rfl ?_
        exact hk11 _ _ h
theorem t_X15_holds {F : Nat} {σ : MM} {a0 : Nat} {a1 : Nat} {r : Int32 × MM} (h : g_X15_holds F σ a0 a1 = some r) : mT σ a0 = (12, 3) := by
  unfold g_X15_holds at h
  exact (r_ck h).1
def ds_holds (own : String) (index : Nat) : Prop := xCU own index yX13_holds cX13_holds 4 (some .int) 10 3 1 ∧ xCU own index yX14_holds cX14_holds 3 (some .int) 11 1 1 ∧ xCU own index yX15_holds cX15_holds 5 (some .int) 12 3 1
theorem fd_X13_7 : xFg RX13 7 10 3 0 := ⟨_, rfl, rfl, by decide, by decide, in_X13, Or.inl q673⟩
theorem ft_X13_0 : xFt 10 0 (.object "OneCoin$Condition") true := ⟨_, rfl, by decide +kernel, rfl, rfl⟩
theorem cu_X13_17_X13_holds_X13 : xCU RX13 17 yX13_holds cX13_holds 4 (some .int) 10 3 1 := ⟨by decide, by decide, _, ⟨"OneCoin$Condition", "holds", "(LOneCoin$Asked;)I"⟩, "OneCoin$Condition", rfl, lw_U q995 q963 q996 q993 q135 q994, ⟨by decide +kernel, by decide +kernel, by decide +kernel⟩, in_nest q962 rfl⟩
theorem cu_X13_17_X14_holds_X14 : xCU RX13 17 yX14_holds cX14_holds 3 (some .int) 11 1 1 := ⟨by decide, by decide, _, ⟨"OneCoin$Condition", "holds", "(LOneCoin$Asked;)I"⟩, "OneCoin$Condition", rfl, lw_U q995 q963 q989 q990 q136 q991, ⟨by decide +kernel, by decide +kernel, by decide +kernel⟩, in_nest q962 rfl⟩
theorem cu_X13_17_X15_holds_X15 : xCU RX13 17 yX15_holds cX15_holds 5 (some .int) 12 3 1 := ⟨by decide, by decide, _, ⟨"OneCoin$Condition", "holds", "(LOneCoin$Asked;)I"⟩, "OneCoin$Condition", rfl, lw_U q995 q963 q964 q965 q137 q966, ⟨by decide +kernel, by decide +kernel, by decide +kernel⟩, in_nest q962 rfl⟩
theorem ds_X13_17 : ds_holds RX13 17 := ⟨cu_X13_17_X13_holds_X13, cu_X13_17_X14_holds_X14, cu_X13_17_X15_holds_X15⟩
theorem fd_X13_13 : xFg RX13 13 10 3 1 := ⟨_, rfl, rfl, by decide, by decide, in_X13, Or.inl q674⟩
theorem ft_X13_1 : xFt 10 1 .int true := ⟨_, rfl, by decide +kernel, rfl, rfl⟩
theorem fd_X13_21 : xFg RX13 21 10 3 2 := ⟨_, rfl, rfl, by decide, by decide, in_X13, Or.inl q675⟩
theorem ft_X13_2 : xFt 10 2 (.object "OneCoin$Some") false := ⟨_, rfl, by decide +kernel, rfl, rfl⟩
def l_X13_holds_2 (rec : MM → Nat → Nat → Option (Int32 × MM)) (K : MM → Option (Int32 × MM)) (F : Nat) (a0 : Nat) (a1 : Nat) : Nat → Nat → MM → Option (Int32 × MM)
  | 0, _, _ => none
  | f + 1, b2, σ => if b2 = 0 then (K σ) else ((gP σ b2 10 3 0).bind fun p1 => bq (rec σ p1 a1) fun v3 σ2 => if v3 = 2 then (some (v3, σ2)) else ((gI σ2 a0 10 3 1).bind fun v4 => if v3 = v4 then (some (v3, σ2)) else ((gP σ2 b2 10 3 2).bind fun p5 => l_X13_holds_2 rec K F a0 a1 f p5 σ2)))
def s_X13_holds (F : Nat) (rec : MM → Nat → Nat → Option (Int32 × MM)) (σ : MM) (a0 : Nat) (a1 : Nat) : Option (Int32 × MM) := if mT σ a0 = (10, 3) then (l_X13_holds_2 rec (fun (σ6 : MM) => (gI σ6 a0 10 3 1).bind fun v7 => some ((1 - v7), σ6)) F a0 a1 F a0 σ) else none
theorem wl_X13_holds_2 {B : Nat} {G : XG} {d : Nat} {rf : Int32} {σf : MM} {rec : MM → Nat → Nat → Option (Int32 × MM)} {dr : Nat} (hrec : ∀ (own : String) (index : Nat), ds_holds own index → ∀ (σ : MM) (b0 b1 : Nat) (v : Int32) (σ' : MM), rec σ b0 b1 = some (v, σ') → xDsp B own index 1 dr σ b0 [rv B b1] (some (.int v)) σ') (hd : dr + 1 ≤ d) (hd2 : 0 ≤ d) (C : xC B G yX13_holds cX13_holds 4 (some .int) d 0 0) (E : xEnd B G (some (.int rf)) σf 0 0) {K : MM → Option (Int32 × MM)} {F : Nat} {a0 : Nat} {a1 : Nat} (hK : ∀ (σ : MM), K σ = some (rf, σf) → xV B G 0 0 σ 38 [(0, rv B a0)] []) : ∀ (f : Nat) (b2 : Nat) (σ : MM), l_X13_holds_2 rec K F a0 a1 f b2 σ = some (rf, σf) → xV B G 0 0 σ 2 [(0, rv B a0), (1, rv B a1), (2, rv B b2)] [] := by
  intro f
  induction f with
  | zero =>
    intro b2 σ h
    have h : none = some (rf, σf) := h
    cases h
  | succ f ih =>
    intro b2 σ h
    rw [l_X13_holds_2.eq_2] at h
    refine r_aload_n (pc := 2) (i := 2) C dX13_holds_2 rfl rfl ?_
    refine r_ifnull (pc := 3) (tgt := 38) C dX13_holds_3 (by decide) h (fun h => ?_) (fun h => ?_)
    · refine r_pick (lv' := [(0, rv B a0)]) [0] rfl ?_
      exact hK _ h
    · refine r_aload_n (pc := 6) (i := 2) C dX13_holds_6 rfl rfl ?_
      refine r_getP (pc := 7) C fd_X13_7 rfl dX13_holds_7 h (fun p1 h => ?_)
      refine r_aload_n (pc := 10) (i := 1) C dX13_holds_10 rfl rfl ?_
      refine r_callUI (pc := 11) (As := [rv B a1]) (st := []) C h (fun _ _ e => hrec _ _ ds_X13_17 _ _ _ _ _ e) (by omega) (Nat.le_of_ble_eq_true rfl) dX13_holds_11 (fun v3 σ2 h => ?_)
      refine r_istore_n (pc := 14) (i := 3) C dX13_holds_14 rfl (by decide) ?_
      refine r_iload_n (pc := 15) (i := 3) C dX13_holds_15 rfl rfl ?_
      refine r_iconst (pc := 16) (v := 2) C dX13_holds_16 (by decide) ?_
      refine r_icmpeq (pc := 17) (tgt := 28) C dX13_holds_17 (by decide) h (fun h => ?_) (fun h => ?_)
      · refine r_iload_n (pc := 28) (i := 3) C dX13_holds_28 rfl rfl ?_
        exact r_iret (pc := 29) C rfl dX13_holds_29 h E
      · refine r_iload_n (pc := 20) (i := 3) C dX13_holds_20 rfl rfl ?_
        refine r_aload_n (pc := 21) (i := 0) C dX13_holds_21 rfl rfl ?_
        refine r_getI (pc := 22) C fd_X13_13 rfl dX13_holds_22 h (fun v4 h => ?_)
        refine r_icmpne (pc := 25) (tgt := 30) C dX13_holds_25 (by decide) h (fun h => ?_) (fun h => ?_)
        · refine r_aload_n (pc := 30) (i := 2) C dX13_holds_30 rfl rfl ?_
          refine r_getP (pc := 31) C fd_X13_21 rfl dX13_holds_31 h (fun p5 h => ?_)
          refine r_astore_n (pc := 34) (i := 2) C dX13_holds_34 rfl (by decide) ?_
          refine r_goto (pc := 35) (tgt := 2) C dX13_holds_35 (by decide) ?_
          refine r_pick (lv' := [(0, rv B a0), (1, rv B a1), (2, rv B p5)]) [0, 1, 2] rfl ?_
          exact ih _ _ h
        · refine r_iload_n (pc := 28) (i := 3) C dX13_holds_28 rfl rfl ?_
          exact r_iret (pc := 29) C rfl dX13_holds_29 h E
theorem ws_X13_holds {B F : Nat} {d : Nat} {σ : MM} {a0 : Nat} {a1 : Nat} {rf : Int32} {σf : MM} {rec : MM → Nat → Nat → Option (Int32 × MM)} {dr : Nat} (hrec : ∀ (own : String) (index : Nat), ds_holds own index → ∀ (σ : MM) (b0 b1 : Nat) (v : Int32) (σ' : MM), rec σ b0 b1 = some (v, σ') → xDsp B own index 1 dr σ b0 [rv B b1] (some (.int v)) σ') (hd : dr + 1 ≤ d) (hd2 : 0 ≤ d) (h : s_X13_holds F rec σ a0 a1 = some (rf, σf)) : xMA B yX13_holds cX13_holds 4 (some .int) d 0 0 [rv B a0, rv B a1] σ (some (.int rf)) σf := by
  refine xMA.of (by decide +kernel) (Nat.le_of_ble_eq_true rfl) (cat_rv (cat_rv cat_nil)) (fun G C E => ?_)
  unfold s_X13_holds at h
  obtain ⟨-, h⟩ := r_ck h
  refine r_aload_n (pc := 0) (i := 0) C dX13_holds_0 rfl rfl ?_
  refine r_astore_n (pc := 1) (i := 2) C dX13_holds_1 rfl (by decide) ?_
  refine r_pick (lv' := [(0, rv B a0), (1, rv B a1), (2, rv B a0)]) [0, 1, 2] rfl ?_
  refine wl_X13_holds_2 hrec hd hd2 C E (fun  σ6 h => ?_) _ _ _ h
  refine r_iconst (pc := 38) (v := 1) C dX13_holds_38 (by decide) ?_
  refine r_aload_n (pc := 39) (i := 0) C dX13_holds_39 rfl rfl ?_
  refine r_getI (pc := 40) C fd_X13_13 rfl dX13_holds_40 h (fun v7 h => ?_)
  refine r_isub (pc := 43) C dX13_holds_43 ?_
  exact r_iret (pc := 44) C rfl dX13_holds_44 h E
theorem ts_X13_holds {F : Nat} {rec : MM → Nat → Nat → Option (Int32 × MM)} {σ : MM} {a0 : Nat} {a1 : Nat} {r : Int32 × MM} (h : s_X13_holds F rec σ a0 a1 = some r) : mT σ a0 = (10, 3) := by
  unfold s_X13_holds at h
  exact (r_ck h).1
theorem fd_X14_7 : xFg RX14 7 11 1 0 := ⟨_, rfl, rfl, by decide, by decide, in_X14, Or.inl q649⟩
theorem ft_X14_0 : xFt 11 0 (.object "OneCoin$Condition") true := ⟨_, rfl, by decide +kernel, rfl, rfl⟩
theorem cu_X14_13_X13_holds_X13 : xCU RX14 13 yX13_holds cX13_holds 4 (some .int) 10 3 1 := ⟨by decide, by decide, _, ⟨"OneCoin$Condition", "holds", "(LOneCoin$Asked;)I"⟩, "OneCoin$Condition", rfl, lw_U q992 q963 q996 q993 q135 q994, ⟨by decide +kernel, by decide +kernel, by decide +kernel⟩, in_nest q962 rfl⟩
theorem cu_X14_13_X14_holds_X14 : xCU RX14 13 yX14_holds cX14_holds 3 (some .int) 11 1 1 := ⟨by decide, by decide, _, ⟨"OneCoin$Condition", "holds", "(LOneCoin$Asked;)I"⟩, "OneCoin$Condition", rfl, lw_U q992 q963 q989 q990 q136 q991, ⟨by decide +kernel, by decide +kernel, by decide +kernel⟩, in_nest q962 rfl⟩
theorem cu_X14_13_X15_holds_X15 : xCU RX14 13 yX15_holds cX15_holds 5 (some .int) 12 3 1 := ⟨by decide, by decide, _, ⟨"OneCoin$Condition", "holds", "(LOneCoin$Asked;)I"⟩, "OneCoin$Condition", rfl, lw_U q992 q963 q964 q965 q137 q966, ⟨by decide +kernel, by decide +kernel, by decide +kernel⟩, in_nest q962 rfl⟩
theorem ds_X14_13 : ds_holds RX14 13 := ⟨cu_X14_13_X13_holds_X13, cu_X14_13_X14_holds_X14, cu_X14_13_X15_holds_X15⟩
def s_X14_holds (F : Nat) (rec : MM → Nat → Nat → Option (Int32 × MM)) (σ : MM) (a0 : Nat) (a1 : Nat) : Option (Int32 × MM) := if mT σ a0 = (11, 1) then ((gP σ a0 11 1 0).bind fun p1 => bq (rec σ p1 a1) fun v3 σ2 => if v3 = 2 then (some (2, σ2)) else (some ((1 - v3), σ2))) else none
theorem ws_X14_holds {B F : Nat} {d : Nat} {σ : MM} {a0 : Nat} {a1 : Nat} {rf : Int32} {σf : MM} {rec : MM → Nat → Nat → Option (Int32 × MM)} {dr : Nat} (hrec : ∀ (own : String) (index : Nat), ds_holds own index → ∀ (σ : MM) (b0 b1 : Nat) (v : Int32) (σ' : MM), rec σ b0 b1 = some (v, σ') → xDsp B own index 1 dr σ b0 [rv B b1] (some (.int v)) σ') (hd : dr + 1 ≤ d) (hd2 : 0 ≤ d) (h : s_X14_holds F rec σ a0 a1 = some (rf, σf)) : xMA B yX14_holds cX14_holds 3 (some .int) d 0 0 [rv B a0, rv B a1] σ (some (.int rf)) σf := by
  refine xMA.of (by decide +kernel) (Nat.le_of_ble_eq_true rfl) (cat_rv (cat_rv cat_nil)) (fun G C E => ?_)
  unfold s_X14_holds at h
  obtain ⟨-, h⟩ := r_ck h
  refine r_aload_n (pc := 0) (i := 0) C dX14_holds_0 rfl rfl ?_
  refine r_getP (pc := 1) C fd_X14_7 rfl dX14_holds_1 h (fun p1 h => ?_)
  refine r_aload_n (pc := 4) (i := 1) C dX14_holds_4 rfl rfl ?_
  refine r_callUI (pc := 5) (As := [rv B a1]) (st := []) C h (fun _ _ e => hrec _ _ ds_X14_13 _ _ _ _ _ e) (by omega) (Nat.le_of_ble_eq_true rfl) dX14_holds_5 (fun v3 σ2 h => ?_)
  refine r_istore_n (pc := 8) (i := 2) C dX14_holds_8 rfl (by decide) ?_
  refine r_iload_n (pc := 9) (i := 2) C dX14_holds_9 rfl rfl ?_
  refine r_iconst (pc := 10) (v := 2) C dX14_holds_10 (by decide) ?_
  refine r_icmpne (pc := 11) (tgt := 18) C dX14_holds_11 (by decide) h (fun h => ?_) (fun h => ?_)
  · refine r_iconst (pc := 18) (v := 1) C dX14_holds_18 (by decide) ?_
    refine r_iload_n (pc := 19) (i := 2) C dX14_holds_19 rfl rfl ?_
    refine r_isub (pc := 20) C dX14_holds_20 ?_
    exact r_iret (pc := 21) C rfl dX14_holds_21 h E
  · refine r_iconst (pc := 14) (v := 2) C dX14_holds_14 (by decide) ?_
    refine r_goto (pc := 15) (tgt := 21) C dX14_holds_15 (by decide) ?_
    exact r_iret (pc := 21) C rfl dX14_holds_21 h E
theorem ts_X14_holds {F : Nat} {rec : MM → Nat → Nat → Option (Int32 × MM)} {σ : MM} {a0 : Nat} {a1 : Nat} {r : Int32 × MM} (h : s_X14_holds F rec σ a0 a1 = some r) : mT σ a0 = (11, 1) := by
  unfold s_X14_holds at h
  exact (r_ck h).1
def v_holds (F : Nat) : Nat → MM → Nat → Nat → Option (Int32 × MM)
  | 0, _, _, _ => none
  | f + 1, σ, a0, a1 => if (mT σ a0).1 = 10 then s_X13_holds F (v_holds F f) σ a0 a1 else if (mT σ a0).1 = 11 then s_X14_holds F (v_holds F f) σ a0 a1 else g_X15_holds F σ a0 a1
theorem w_v_holds {B F : Nat} : ∀ (f : Nat) (own : String) (index : Nat), ds_holds own index → ∀ (σ : MM) (a0 a1 : Nat) (v : Int32) (σ' : MM), v_holds F f σ a0 a1 = some (v, σ') → xDsp B own index 1 (1 * f + 66) σ a0 [rv B a1] (some (.int v)) σ' := by
  intro f
  induction f with
  | zero =>
    intro own index hds σ a0 a1 v σ' h
    have h : none = some (v, σ') := h
    cases h
  | succ f ih =>
    intro own index hds σ a0 a1 v σ' h
    rw [v_holds.eq_2] at h
    by_cases h0 : (mT σ a0).1 = 10
    · rw [if_pos h0] at h
      exact ⟨_, _, _, _, _, _, Or.inl hds.1, ts_X13_holds h, ws_X13_holds (dr := 1 * f + 66) ih (by omega) (by omega) h⟩
    rw [if_neg h0] at h
    by_cases h1 : (mT σ a0).1 = 11
    · rw [if_pos h1] at h
      exact ⟨_, _, _, _, _, _, Or.inl hds.2.1, ts_X14_holds h, ws_X14_holds (dr := 1 * f + 66) ih (by omega) (by omega) h⟩
    rw [if_neg h1] at h
    exact ⟨_, _, _, _, _, _, Or.inl hds.2.2, t_X15_holds h, w_X15_holds (by omega) h⟩
theorem fd_X8_7_X9 : xFg RX8 7 1 10 0 := ⟨_, rfl, rfl, by decide, by decide, in_X2, Or.inr ⟨_, in_nest q170 rfl⟩⟩
theorem cu_X8_13_X9_worth_X9 : xCU RX8 13 yX9_worth cX9_worth 4 (some .int) 7 3 1 := ⟨by decide, by decide, _, ⟨"OneCoin$Sum", "worth", "(LOneCoin$Asked;)I"⟩, "OneCoin$Sum", rfl, lw_U q1004 q969 q982 q983 q131 q984, ⟨by decide +kernel, by decide +kernel, by decide +kernel⟩, in_nest q968 rfl⟩
def g_X8_told_X9 (F : Nat) (σ : MM) (a0 : Nat) (a1 : Nat) : Option (Int32 × MM) := if mT σ a0 = (7, 3) then ((pZ σ a1 1 10 0 0).bind fun σ1 => bq (g_X9_worth F σ1 a0 a1) fun v3 σ2 => (gI σ2 a1 1 10 0).bind fun v4 => if v4 = 0 then (some (v3, σ2)) else (some (0, σ2))) else none
theorem w_X8_told_X9 {B F : Nat} {d : Nat} {σ : MM} {a0 : Nat} {a1 : Nat} {rf : Int32} {σf : MM} (hd : 67 ≤ d) (h : g_X8_told_X9 F σ a0 a1 = some (rf, σf)) : xMA B yX8_told cX8_told 3 (some .int) d 0 0 [rv B a0, rv B a1] σ (some (.int rf)) σf := by
  refine xMA.of (by decide +kernel) (Nat.le_of_ble_eq_true rfl) (cat_rv (cat_rv cat_nil)) (fun G C E => ?_)
  unfold g_X8_told_X9 at h
  obtain ⟨-, h⟩ := r_ck h
  refine r_aload_n (pc := 0) (i := 1) C dX8_told_0 rfl rfl ?_
  refine r_iconst (pc := 1) (v := 0) C dX8_told_1 (by decide) ?_
  refine r_putZ (pc := 2) C fd_X8_7_X9 ft_X2_0 dX8_told_2 h (fun σ1 h => ?_)
  refine r_aload_n (pc := 5) (i := 0) C dX8_told_5 rfl rfl ?_
  refine r_aload_n (pc := 6) (i := 1) C dX8_told_6 rfl rfl ?_
  refine r_callUI (pc := 7) (As := [rv B a1]) (st := []) C h (fun _ _ e => ⟨_, _, _, _, _, _, Or.inl cu_X8_13_X9_worth_X9, t_X9_worth e, w_X9_worth (Nat.le_refl 66) e⟩) (Nat.le_trans (Nat.le_of_ble_eq_true rfl) hd) (Nat.le_of_ble_eq_true rfl) dX8_told_7 (fun v3 σ2 h => ?_)
  refine r_istore_n (pc := 10) (i := 2) C dX8_told_10 rfl (by decide) ?_
  refine r_aload_n (pc := 11) (i := 1) C dX8_told_11 rfl rfl ?_
  refine r_getI (pc := 12) C fd_X8_7_X9 rfl dX8_told_12 h (fun v4 h => ?_)
  refine r_ifeq (pc := 15) (tgt := 22) C dX8_told_15 (by decide) h (fun h => ?_) (fun h => ?_)
  · refine r_iload_n (pc := 22) (i := 2) C dX8_told_22 rfl rfl ?_
    exact r_iret (pc := 23) C rfl dX8_told_23 h E
  · refine r_iconst (pc := 18) (v := 0) C dX8_told_18 (by decide) ?_
    refine r_goto (pc := 19) (tgt := 23) C dX8_told_19 (by decide) ?_
    exact r_iret (pc := 23) C rfl dX8_told_23 h E
theorem t_X8_told_X9 {F : Nat} {σ : MM} {a0 : Nat} {a1 : Nat} {r : Int32 × MM} (h : g_X8_told_X9 F σ a0 a1 = some r) : mT σ a0 = (7, 3) := by
  unfold g_X8_told_X9 at h
  exact (r_ck h).1
theorem fd_X5_27 : xFg RX5 27 4 4 3 := ⟨_, rfl, rfl, by decide, by decide, in_X5, Or.inl q295⟩
theorem ft_X5_3 : xFt 4 3 .int false := ⟨_, rfl, by decide +kernel, rfl, rfl⟩
theorem fd_X5_9 : xFg RX5 9 4 4 0 := ⟨_, rfl, rfl, by decide, by decide, in_X5, Or.inl q289⟩
theorem ft_X5_0 : xFt 4 0 (.array .int) true := ⟨_, rfl, by decide +kernel, rfl, rfl⟩
theorem fd_X5_23 : xFg RX5 23 4 4 2 := ⟨_, rfl, rfl, by decide, by decide, in_X5, Or.inl q293⟩
theorem ft_X5_2 : xFt 4 2 (.array (.object "OneCoin$Condition")) true := ⟨_, rfl, by decide +kernel, rfl, rfl⟩
theorem cu_X5_31_X13_holds_X13 : xCU RX5 31 yX13_holds cX13_holds 4 (some .int) 10 3 1 := ⟨by decide, by decide, _, ⟨"OneCoin$Condition", "holds", "(LOneCoin$Asked;)I"⟩, "OneCoin$Condition", rfl, lw_U q961 q963 q996 q993 q135 q994, ⟨by decide +kernel, by decide +kernel, by decide +kernel⟩, in_nest q962 rfl⟩
theorem cu_X5_31_X14_holds_X14 : xCU RX5 31 yX14_holds cX14_holds 3 (some .int) 11 1 1 := ⟨by decide, by decide, _, ⟨"OneCoin$Condition", "holds", "(LOneCoin$Asked;)I"⟩, "OneCoin$Condition", rfl, lw_U q961 q963 q989 q990 q136 q991, ⟨by decide +kernel, by decide +kernel, by decide +kernel⟩, in_nest q962 rfl⟩
theorem cu_X5_31_X15_holds_X15 : xCU RX5 31 yX15_holds cX15_holds 5 (some .int) 12 3 1 := ⟨by decide, by decide, _, ⟨"OneCoin$Condition", "holds", "(LOneCoin$Asked;)I"⟩, "OneCoin$Condition", rfl, lw_U q961 q963 q964 q965 q137 q966, ⟨by decide +kernel, by decide +kernel, by decide +kernel⟩, in_nest q962 rfl⟩
theorem ds_X5_31 : ds_holds RX5 31 := ⟨cu_X5_31_X13_holds_X13, cu_X5_31_X14_holds_X14, cu_X5_31_X15_holds_X15⟩
theorem fd_X5_17 : xFg RX5 17 4 4 1 := ⟨_, rfl, rfl, by decide, by decide, in_X5, Or.inl q291⟩
theorem ft_X5_1 : xFt 4 1 (.array (.object "OneCoin$Sum")) true := ⟨_, rfl, by decide +kernel, rfl, rfl⟩
theorem cu_X5_35_X8_told_X9 : xCU' RX5 35 yX8_told cX8_told 3 (some .int) 7 3 1 := ⟨by decide, by decide, _, ⟨"OneCoin$Sum", "told", "(LOneCoin$Asked;)I"⟩, "OneCoin$Sum", rfl, lw_U q997 q999 q1002 q998 q130 q1003, ⟨by decide +kernel, by decide +kernel, by decide +kernel⟩, rfl⟩
def l_X5_tells_2 (K : MM → Option (Int32 × MM)) (F : Nat) (a0 : Nat) (x1 : Int32) (a2 : Nat) : Nat → Int32 → MM → Option (Int32 × MM)
  | 0, _, _ => none
  | f + 1, z3, σ => (gI σ a0 4 4 3).bind fun v1 => if z3 < v1 then ((gP σ a0 4 4 0).bind fun p2 => (aI σ p2 20 z3).bind fun v3 => if v3 = x1 then ((gP σ a0 4 4 2).bind fun p4 => (aP σ p4 24 z3).bind fun p5 => bq (v_holds F 64 σ p5 a2) fun v7 σ6 => if v7 = 1 then ((gP σ6 a0 4 4 1).bind fun p8 => (aP σ6 p8 23 z3).bind fun p9 => bq (g_X8_told_X9 F σ6 p9 a2) fun v11 σ10 => some (v11, σ10)) else (l_X5_tells_2 K F a0 x1 a2 f ((z3 + 1)) σ6)) else (l_X5_tells_2 K F a0 x1 a2 f ((z3 + 1)) σ)) else (K σ)
def g_X5_tells (F : Nat) (σ : MM) (a0 : Nat) (x1 : Int32) (a2 : Nat) : Option (Int32 × MM) := if mT σ a0 = (4, 4) then (l_X5_tells_2 (fun (σ12 : MM) => some (0, σ12)) F a0 x1 a2 F 0 σ) else none
theorem wl_X5_tells_2 {B : Nat} {G : XG} {d : Nat} {rf : Int32} {σf : MM} (hd : 131 ≤ d) (C : xC B G yX5_tells cX5_tells 4 (some .int) d 0 0) (E : xEnd B G (some (.int rf)) σf 0 0) {K : MM → Option (Int32 × MM)} {F : Nat} {a0 : Nat} {x1 : Int32} {a2 : Nat} (hK : ∀ (σ : MM), K σ = some (rf, σf) → xV B G 0 0 σ 51 [] []) : ∀ (f : Nat) (z3 : Int32) (σ : MM), l_X5_tells_2 K F a0 x1 a2 f z3 σ = some (rf, σf) → xV B G 0 0 σ 2 [(0, rv B a0), (1, .int x1), (2, rv B a2), (3, .int z3)] [] := by
  intro f
  induction f with
  | zero =>
    intro z3 σ h
    have h : none = some (rf, σf) := h
    cases h
  | succ f ih =>
    intro z3 σ h
    rw [l_X5_tells_2.eq_2] at h
    refine r_iload_n (pc := 2) (i := 3) C dX5_tells_2 rfl rfl ?_
    refine r_aload_n (pc := 3) (i := 0) C dX5_tells_3 rfl rfl ?_
    refine r_getI (pc := 4) C fd_X5_27 rfl dX5_tells_4 h (fun v1 h => ?_)
    refine r_icmpge (pc := 7) (tgt := 51) C dX5_tells_7 (by decide) h (fun h => ?_) (fun h => ?_)
    · refine r_pick (lv' := []) [] rfl ?_
      exact hK _ h
    · refine r_aload_n (pc := 10) (i := 0) C dX5_tells_10 rfl rfl ?_
      refine r_getP (pc := 11) C fd_X5_9 rfl dX5_tells_11 h (fun p2 h => ?_)
      refine r_iload_n (pc := 14) (i := 3) C dX5_tells_14 rfl rfl ?_
      refine r_iald (pc := 15) C dX5_tells_15 h (fun v3 h => ?_)
      refine r_iload_n (pc := 16) (i := 1) C dX5_tells_16 rfl rfl ?_
      refine r_icmpne (pc := 17) (tgt := 45) C dX5_tells_17 (by decide) h (fun h => ?_) (fun h => ?_)
      · refine r_iinc (pc := 45) (i := 3) (v := (z3 + 1)) C dX5_tells_45 rfl rfl (by decide) ?_
        refine r_goto (pc := 48) (tgt := 2) C dX5_tells_48 (by decide) ?_
        refine r_pick (lv' := [(0, rv B a0), (1, .int x1), (2, rv B a2), (3, .int (z3 + 1))]) [0, 1, 2, 3] rfl ?_
        exact ih _ _ h
      · refine r_aload_n (pc := 20) (i := 0) C dX5_tells_20 rfl rfl ?_
        refine r_getP (pc := 21) C fd_X5_23 rfl dX5_tells_21 h (fun p4 h => ?_)
        refine r_iload_n (pc := 24) (i := 3) C dX5_tells_24 rfl rfl ?_
        refine r_aald (pc := 25) 2 (by decide) C dX5_tells_25 h (fun p5 h => ?_)
        refine r_aload_n (pc := 26) (i := 2) C dX5_tells_26 rfl rfl ?_
        refine r_callUI (pc := 27) (As := [rv B a2]) (st := []) C h (fun _ _ e => w_v_holds 64 _ _ ds_X5_31 _ _ _ _ _ e) (Nat.le_trans (Nat.le_of_ble_eq_true rfl) hd) (Nat.le_of_ble_eq_true rfl) dX5_tells_27 (fun v7 σ6 h => ?_)
        refine r_iconst (pc := 30) (v := 1) C dX5_tells_30 (by decide) ?_
        refine r_icmpne (pc := 31) (tgt := 45) C dX5_tells_31 (by decide) h (fun h => ?_) (fun h => ?_)
        · refine r_iinc (pc := 45) (i := 3) (v := (z3 + 1)) C dX5_tells_45 rfl rfl (by decide) ?_
          refine r_goto (pc := 48) (tgt := 2) C dX5_tells_48 (by decide) ?_
          refine r_pick (lv' := [(0, rv B a0), (1, .int x1), (2, rv B a2), (3, .int (z3 + 1))]) [0, 1, 2, 3] rfl ?_
          exact ih _ _ h
        · refine r_aload_n (pc := 34) (i := 0) C dX5_tells_34 rfl rfl ?_
          refine r_getP (pc := 35) C fd_X5_17 rfl dX5_tells_35 h (fun p8 h => ?_)
          refine r_iload_n (pc := 38) (i := 3) C dX5_tells_38 rfl rfl ?_
          refine r_aald (pc := 39) 1 (by decide) C dX5_tells_39 h (fun p9 h => ?_)
          refine r_aload_n (pc := 40) (i := 2) C dX5_tells_40 rfl rfl ?_
          refine r_callUI (pc := 41) (As := [rv B a2]) (st := []) C h (fun _ _ e => ⟨_, _, _, _, _, _, Or.inr cu_X5_35_X8_told_X9, t_X8_told_X9 e, w_X8_told_X9 (Nat.le_refl 67) e⟩) (Nat.le_trans (Nat.le_of_ble_eq_true rfl) hd) (Nat.le_of_ble_eq_true rfl) dX5_tells_41 (fun v11 σ10 h => ?_)
          exact r_iret (pc := 44) C rfl dX5_tells_44 h E
theorem w_X5_tells {B F : Nat} {d : Nat} {σ : MM} {a0 : Nat} {x1 : Int32} {a2 : Nat} {rf : Int32} {σf : MM} (hd : 131 ≤ d) (h : g_X5_tells F σ a0 x1 a2 = some (rf, σf)) : xMA B yX5_tells cX5_tells 4 (some .int) d 0 0 [rv B a0, .int x1, rv B a2] σ (some (.int rf)) σf := by
  refine xMA.of (by decide +kernel) (Nat.le_of_ble_eq_true rfl) (cat_rv (cat_int (cat_rv cat_nil))) (fun G C E => ?_)
  unfold g_X5_tells at h
  obtain ⟨-, h⟩ := r_ck h
  refine r_iconst (pc := 0) (v := 0) C dX5_tells_0 (by decide) ?_
  refine r_istore_n (pc := 1) (i := 3) C dX5_tells_1 rfl (by decide) ?_
  refine r_pick (lv' := [(0, rv B a0), (1, .int x1), (2, rv B a2), (3, .int 0)]) [0, 1, 2, 3] rfl ?_
  refine wl_X5_tells_2 hd C E (fun  σ12 h => ?_) _ _ _ h
  refine r_iconst (pc := 51) (v := 0) C dX5_tells_51 (by decide) ?_
  exact r_iret (pc := 52) C rfl dX5_tells_52 h E
theorem t_X5_tells {F : Nat} {σ : MM} {a0 : Nat} {x1 : Int32} {a2 : Nat} {r : Int32 × MM} (h : g_X5_tells F σ a0 x1 a2 = some r) : mT σ a0 = (4, 4) := by
  unfold g_X5_tells at h
  exact (r_ck h).1
def l_X5_says_2 (K : MM → Option (Int32 × MM)) (F : Nat) (a0 : Nat) (x1 : Int32) (a2 : Nat) : Nat → Int32 → MM → Option (Int32 × MM)
  | 0, _, _ => none
  | f + 1, z3, σ => (gI σ a0 4 4 3).bind fun v1 => if z3 < v1 then ((gP σ a0 4 4 0).bind fun p2 => (aI σ p2 20 z3).bind fun v3 => if v3 = x1 then ((gP σ a0 4 4 2).bind fun p4 => (aP σ p4 24 z3).bind fun p5 => bq (v_holds F 64 σ p5 a2) fun v7 σ6 => if v7 = 1 then (some (1, σ6)) else (l_X5_says_2 K F a0 x1 a2 f ((z3 + 1)) σ6)) else (l_X5_says_2 K F a0 x1 a2 f ((z3 + 1)) σ)) else (K σ)
def g_X5_says (F : Nat) (σ : MM) (a0 : Nat) (x1 : Int32) (a2 : Nat) : Option (Int32 × MM) := if mT σ a0 = (4, 4) then (l_X5_says_2 (fun (σ8 : MM) => some (0, σ8)) F a0 x1 a2 F 0 σ) else none
theorem wl_X5_says_2 {B : Nat} {G : XG} {d : Nat} {rf : Int32} {σf : MM} (hd : 131 ≤ d) (C : xC B G yX5_says cX5_says 4 (some .boolean) d 0 0) (E : xEnd B G (some (.int rf)) σf 0 0) {K : MM → Option (Int32 × MM)} {F : Nat} {a0 : Nat} {x1 : Int32} {a2 : Nat} (hK : ∀ (σ : MM), K σ = some (rf, σf) → xV B G 0 0 σ 42 [] []) : ∀ (f : Nat) (z3 : Int32) (σ : MM), l_X5_says_2 K F a0 x1 a2 f z3 σ = some (rf, σf) → xV B G 0 0 σ 2 [(0, rv B a0), (1, .int x1), (2, rv B a2), (3, .int z3)] [] := by
  intro f
  induction f with
  | zero =>
    intro z3 σ h
    have h : none = some (rf, σf) := h
    cases h
  | succ f ih =>
    intro z3 σ h
    rw [l_X5_says_2.eq_2] at h
    refine r_iload_n (pc := 2) (i := 3) C dX5_says_2 rfl rfl ?_
    refine r_aload_n (pc := 3) (i := 0) C dX5_says_3 rfl rfl ?_
    refine r_getI (pc := 4) C fd_X5_27 rfl dX5_says_4 h (fun v1 h => ?_)
    refine r_icmpge (pc := 7) (tgt := 42) C dX5_says_7 (by decide) h (fun h => ?_) (fun h => ?_)
    · refine r_pick (lv' := []) [] rfl ?_
      exact hK _ h
    · refine r_aload_n (pc := 10) (i := 0) C dX5_says_10 rfl rfl ?_
      refine r_getP (pc := 11) C fd_X5_9 rfl dX5_says_11 h (fun p2 h => ?_)
      refine r_iload_n (pc := 14) (i := 3) C dX5_says_14 rfl rfl ?_
      refine r_iald (pc := 15) C dX5_says_15 h (fun v3 h => ?_)
      refine r_iload_n (pc := 16) (i := 1) C dX5_says_16 rfl rfl ?_
      refine r_icmpne (pc := 17) (tgt := 36) C dX5_says_17 (by decide) h (fun h => ?_) (fun h => ?_)
      · refine r_iinc (pc := 36) (i := 3) (v := (z3 + 1)) C dX5_says_36 rfl rfl (by decide) ?_
        refine r_goto (pc := 39) (tgt := 2) C dX5_says_39 (by decide) ?_
        refine r_pick (lv' := [(0, rv B a0), (1, .int x1), (2, rv B a2), (3, .int (z3 + 1))]) [0, 1, 2, 3] rfl ?_
        exact ih _ _ h
      · refine r_aload_n (pc := 20) (i := 0) C dX5_says_20 rfl rfl ?_
        refine r_getP (pc := 21) C fd_X5_23 rfl dX5_says_21 h (fun p4 h => ?_)
        refine r_iload_n (pc := 24) (i := 3) C dX5_says_24 rfl rfl ?_
        refine r_aald (pc := 25) 2 (by decide) C dX5_says_25 h (fun p5 h => ?_)
        refine r_aload_n (pc := 26) (i := 2) C dX5_says_26 rfl rfl ?_
        refine r_callUI (pc := 27) (As := [rv B a2]) (st := []) C h (fun _ _ e => w_v_holds 64 _ _ ds_X5_31 _ _ _ _ _ e) (Nat.le_trans (Nat.le_of_ble_eq_true rfl) hd) (Nat.le_of_ble_eq_true rfl) dX5_says_27 (fun v7 σ6 h => ?_)
        refine r_iconst (pc := 30) (v := 1) C dX5_says_30 (by decide) ?_
        refine r_icmpne (pc := 31) (tgt := 36) C dX5_says_31 (by decide) h (fun h => ?_) (fun h => ?_)
        · refine r_iinc (pc := 36) (i := 3) (v := (z3 + 1)) C dX5_says_36 rfl rfl (by decide) ?_
          refine r_goto (pc := 39) (tgt := 2) C dX5_says_39 (by decide) ?_
          refine r_pick (lv' := [(0, rv B a0), (1, .int x1), (2, rv B a2), (3, .int (z3 + 1))]) [0, 1, 2, 3] rfl ?_
          exact ih _ _ h
        · refine r_iconst (pc := 34) (v := 1) C dX5_says_34 (by decide) ?_
          exact r_zretL (pc := 35) C rfl dX5_says_35 (Or.inr rfl) h E
theorem w_X5_says {B F : Nat} {d : Nat} {σ : MM} {a0 : Nat} {x1 : Int32} {a2 : Nat} {rf : Int32} {σf : MM} (hd : 131 ≤ d) (h : g_X5_says F σ a0 x1 a2 = some (rf, σf)) : xMA B yX5_says cX5_says 4 (some .boolean) d 0 0 [rv B a0, .int x1, rv B a2] σ (some (.int rf)) σf := by
  refine xMA.of (by decide +kernel) (Nat.le_of_ble_eq_true rfl) (cat_rv (cat_int (cat_rv cat_nil))) (fun G C E => ?_)
  unfold g_X5_says at h
  obtain ⟨-, h⟩ := r_ck h
  refine r_iconst (pc := 0) (v := 0) C dX5_says_0 (by decide) ?_
  refine r_istore_n (pc := 1) (i := 3) C dX5_says_1 rfl (by decide) ?_
  refine r_pick (lv' := [(0, rv B a0), (1, .int x1), (2, rv B a2), (3, .int 0)]) [0, 1, 2, 3] rfl ?_
  refine wl_X5_says_2 hd C E (fun  σ8 h => ?_) _ _ _ h
  refine r_iconst (pc := 42) (v := 0) C dX5_says_42 (by decide) ?_
  exact r_zretL (pc := 43) C rfl dX5_says_43 (Or.inl rfl) h E
theorem t_X5_says {F : Nat} {σ : MM} {a0 : Nat} {x1 : Int32} {a2 : Nat} {r : Int32 × MM} (h : g_X5_says F σ a0 x1 a2 = some r) : mT σ a0 = (4, 4) := by
  unfold g_X5_says at h
  exact (r_ck h).1
