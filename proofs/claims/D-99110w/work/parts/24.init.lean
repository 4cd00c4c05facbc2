set_option maxRecDepth 100000
theorem fc_X5_9 : xFc RX5 9 4 0 := ⟨⟨_, rfl, rfl⟩, _, rfl, q289⟩
theorem fc_X5_17 : xFc RX5 17 4 1 := ⟨⟨_, rfl, rfl⟩, _, rfl, q291⟩
theorem fc_X5_23 : xFc RX5 23 4 2 := ⟨⟨_, rfl, rfl⟩, _, rfl, q293⟩
def g_X5_init (F : Nat) (σ : MM) (a0 : Nat) : Option (MM) := if mT σ a0 = (4, 4) then (if (mT σ a0).1 ≠ 99 then (nw σ (20, 16) fun p2 σ3 => (pP σ3 a0 4 4 0 p2).bind fun σ4 => nw σ4 (23, 16) fun p5 σ6 => (pP σ6 a0 4 4 1 p5).bind fun σ7 => nw σ7 (24, 16) fun p8 σ9 => (pP σ9 a0 4 4 2 p8).bind fun σ10 => some σ10) else none) else none
theorem w_X5_init {B F : Nat} {d : Nat} {σ : MM} {a0 : Nat} {σf : MM} (hd : 1 ≤ d) (h : g_X5_init F σ a0 = some σf) : xMA B yX5_init cX5_init 1 none d 3 48 [rv B a0] σ none σf := by
  refine xMA.of (by decide +kernel) (Nat.le_of_ble_eq_true rfl) (cat_rv cat_nil) (fun G C E => ?_)
  unfold g_X5_init at h
  obtain ⟨-, h⟩ := r_ck h
  refine r_aload_n (pc := 0) (i := 0) C dX5_init_0 rfl rfl ?_
  refine r_objI (pc := 1) C q284 q148 q149 (Nat.le_trans (Nat.le_of_ble_eq_true rfl) hd) (Nat.le_of_ble_eq_true rfl) dX5_init_1 h (fun h => ?_)
  refine r_aload_n (pc := 4) (i := 0) C dX5_init_4 rfl rfl ?_
  refine r_bipush (pc := 5) (v := 16) C dX5_init_5 (by decide) ?_
  refine r_newaB (pc := 7) (t := 0) (atype := .int) C (by decide) rfl q192 dX5_init_7 (by decide) (N := 16) (by decide +kernel) (Nat.le_of_ble_eq_true rfl) (Nat.le_of_ble_eq_true rfl) (Nat.le_of_ble_eq_true rfl) rfl rfl h (fun p2 σ3 h => ?_)
  refine r_putPF (pc := 9) C rfl fd_X5_9 fc_X5_9 ft_X5_0 (Or.inr ⟨_, rfl⟩) dX5_init_9 h (fun σ4 h => ?_)
  refine r_aload_n (pc := 12) (i := 0) C dX5_init_12 rfl rfl ?_
  refine r_bipush (pc := 13) (v := 16) C dX5_init_13 (by decide) ?_
  refine r_anewB (pc := 15) (q := 0) C (by decide) rfl q285 dX5_init_15 (by decide) (N := 16) (by decide +kernel) (Nat.le_of_ble_eq_true rfl) (Nat.le_of_ble_eq_true rfl) (Nat.le_of_ble_eq_true rfl) rfl rfl h (fun p5 σ6 h => ?_)
  refine r_putPF (pc := 18) C rfl fd_X5_17 fc_X5_17 ft_X5_1 (Or.inr ⟨_, rfl⟩) dX5_init_18 h (fun σ7 h => ?_)
  refine r_aload_n (pc := 21) (i := 0) C dX5_init_21 rfl rfl ?_
  refine r_bipush (pc := 22) (v := 16) C dX5_init_22 (by decide) ?_
  refine r_anewB (pc := 24) (q := 1) C (by decide) rfl q287 dX5_init_24 (by decide) (N := 16) (by decide +kernel) (Nat.le_of_ble_eq_true rfl) (Nat.le_of_ble_eq_true rfl) (Nat.le_of_ble_eq_true rfl) rfl rfl h (fun p8 σ9 h => ?_)
  refine r_putPF (pc := 27) C rfl fd_X5_23 fc_X5_23 ft_X5_2 (Or.inr ⟨_, rfl⟩) dX5_init_27 h (fun σ10 h => ?_)
  exact r_vret (pc := 30) C rfl dX5_init_30 h E
theorem t_X5_init {F : Nat} {σ : MM} {a0 : Nat} {r : MM} (h : g_X5_init F σ a0 = some r) : mT σ a0 = (4, 4) := by
  unfold g_X5_init at h
  exact (r_ck h).1
def g_X1_init (F : Nat) (σ : MM) (a0 : Nat) : Option (MM) := if (mT σ a0).1 ≠ 99 then (if (mT σ a0).1 ≠ 99 then (some σ) else none) else none
theorem w_X1_init {B F : Nat} {d : Nat} {σ : MM} {a0 : Nat} {σf : MM} (hd : 1 ≤ d) (h : g_X1_init F σ a0 = some σf) : xMA B yX1_init cX1_init 1 none d 0 0 [rv B a0] σ none σf := by
  refine xMA.of (by decide +kernel) (Nat.le_of_ble_eq_true rfl) (cat_rv cat_nil) (fun G C E => ?_)
  unfold g_X1_init at h
  obtain ⟨-, h⟩ := r_ck h
  refine r_aload_n (pc := 0) (i := 0) C dX1_init_0 rfl rfl ?_
  refine r_objI (pc := 1) C q158 q148 q149 (Nat.le_trans (Nat.le_of_ble_eq_true rfl) hd) (Nat.le_of_ble_eq_true rfl) dX1_init_1 h (fun h => ?_)
  exact r_vret (pc := 4) C rfl dX1_init_4 h E
theorem t_X1_init {F : Nat} {σ : MM} {a0 : Nat} {r : MM} (h : g_X1_init F σ a0 = some r) : (mT σ a0).1 ≠ 99 := by
  unfold g_X1_init at h
  exact (r_ck h).1
theorem fc_X2_1 : xFc RX2 1 1 9 := ⟨⟨_, rfl, rfl⟩, _, rfl, q167⟩
theorem yd_X1_init : xYd yX1_init 0 := ⟨by decide +kernel, by decide +kernel, by decide +kernel⟩
theorem cs_X2_7_X1_init : xCI RX2 7 yX1_init cX1_init 1 0 := ⟨by decide, rfl, yd_X1_init, lw_meth q157, q117, q156, Or.inr ⟨_, in_nest q155 rfl⟩⟩
def g_X2_init (F : Nat) (σ : MM) (a0 : Nat) (a1 : Nat) : Option (MM) := if mT σ a0 = (1, 10) then ((pP σ a0 1 10 9 a1).bind fun σ1 => (g_X1_init F σ1 a0).bind fun σ2 => some σ2) else none
theorem w_X2_init {B F : Nat} {d : Nat} {σ : MM} {a0 : Nat} {a1 : Nat} {σf : MM} (hd : 2 ≤ d) (h : g_X2_init F σ a0 a1 = some σf) : xMA B yX2_init cX2_init 2 none d 0 0 [rv B a0, rv B a1] σ none σf := by
  refine xMA.of (by decide +kernel) (Nat.le_of_ble_eq_true rfl) (cat_rv (cat_rv cat_nil)) (fun G C E => ?_)
  unfold g_X2_init at h
  obtain ⟨-, h⟩ := r_ck h
  refine r_aload_n (pc := 0) (i := 0) C dX2_init_0 rfl rfl ?_
  refine r_aload_n (pc := 1) (i := 1) C dX2_init_1 rfl rfl ?_
  refine r_putPF (pc := 2) C rfl fd_X2_1 fc_X2_1 ft_X2_9 (Or.inl ⟨_, rfl⟩) dX2_init_2 h (fun σ1 h => ?_)
  refine r_aload_n (pc := 5) (i := 0) C dX2_init_5 rfl rfl ?_
  refine r_callI (pc := 6) (As := []) (st := []) C cs_X2_7_X1_init h (fun _ e => w_X1_init (Nat.le_refl 1) e) (fun _ e => t_X1_init e) (Nat.le_trans (Nat.le_of_ble_eq_true rfl) hd) (Nat.le_of_ble_eq_true rfl) (Nat.le_of_ble_eq_true rfl) rfl rfl (Nat.le_of_ble_eq_true rfl) dX2_init_6 (fun σ2 h => ?_)
  exact r_vret (pc := 9) C rfl dX2_init_9 h E
theorem t_X2_init {F : Nat} {σ : MM} {a0 : Nat} {a1 : Nat} {r : MM} (h : g_X2_init F σ a0 a1 = some r) : mT σ a0 = (1, 10) := by
  unfold g_X2_init at h
  exact (r_ck h).1
theorem fc_X3_3 : xFc RX3 3 2 15 := ⟨⟨_, rfl, rfl⟩, _, rfl, q245⟩
theorem cs_X3_17_X4_init : xCI RX3 17 yX4_init cX4_init 1 0 := ⟨by decide, rfl, yd_X4_init, lw_meth q203, q120, q202, Or.inr ⟨_, in_nest q201 rfl⟩⟩
theorem fc_X3_18 : xFc RX3 18 2 0 := ⟨⟨_, rfl, rfl⟩, _, rfl, q215⟩
theorem fc_X3_22 : xFc RX3 22 2 1 := ⟨⟨_, rfl, rfl⟩, _, rfl, q218⟩
theorem fc_X3_26 : xFc RX3 26 2 2 := ⟨⟨_, rfl, rfl⟩, _, rfl, q220⟩
def g_X3_init (F : Nat) (σ : MM) (a0 : Nat) (a1 : Nat) : Option (MM) := if mT σ a0 = (2, 16) then ((pP σ a0 2 16 15 a1).bind fun σ1 => if (mT σ1 a0).1 ≠ 99 then (nw σ1 (3, 1) fun p3 σ4 => (g_X4_init F σ4 p3).bind fun σ5 => (pP σ5 a0 2 16 0 p3).bind fun σ6 => nw σ6 (20, 10) fun p7 σ8 => (pP σ8 a0 2 16 1 p7).bind fun σ9 => nw σ9 (20, 40) fun p10 σ11 => (pP σ11 a0 2 16 2 p10).bind fun σ12 => (pI σ12 a0 2 16 3 ((-1))).bind fun σ13 => (pI σ13 a0 2 16 5 ((-1))).bind fun σ14 => some σ14) else none) else none
theorem w_X3_init {B F : Nat} {d : Nat} {σ : MM} {a0 : Nat} {a1 : Nat} {σf : MM} (hd : 2 ≤ d) (h : g_X3_init F σ a0 a1 = some σf) : xMA B yX3_init cX3_init 2 none d 14 161 [rv B a0, rv B a1] σ none σf := by
  refine xMA.of (by decide +kernel) (Nat.le_of_ble_eq_true rfl) (cat_rv (cat_rv cat_nil)) (fun G C E => ?_)
  unfold g_X3_init at h
  obtain ⟨-, h⟩ := r_ck h
  refine r_aload_n (pc := 0) (i := 0) C dX3_init_0 rfl rfl ?_
  refine r_aload_n (pc := 1) (i := 1) C dX3_init_1 rfl rfl ?_
  refine r_putPF (pc := 2) C rfl fd_X3_3 fc_X3_3 ft_X3_15 (Or.inl ⟨_, rfl⟩) dX3_init_2 h (fun σ1 h => ?_)
  refine r_aload_n (pc := 5) (i := 0) C dX3_init_5 rfl rfl ?_
  refine r_objI (pc := 6) C q198 q148 q149 (Nat.le_trans (Nat.le_of_ble_eq_true rfl) hd) (Nat.le_of_ble_eq_true rfl) dX3_init_6 h (fun h => ?_)
  refine r_aload_n (pc := 9) (i := 0) C dX3_init_9 rfl rfl ?_
  refine r_newB (pc := 10) C xcl_X4 q199 q200 q120 dX3_init_10 (Nat.le_of_ble_eq_true rfl) (Nat.le_of_ble_eq_true rfl) rfl rfl h (fun p3 σ4 h => ?_)
  refine r_dup (pc := 13) C dX3_init_13 ?_
  refine r_callI (pc := 14) (As := []) (st := [rv B p3, rv B a0]) C cs_X3_17_X4_init h (fun _ e => w_X4_init (Nat.le_refl 1) e) (fun _ e => by rw [t_X4_init e]; decide) (Nat.le_trans (Nat.le_of_ble_eq_true rfl) hd) (Nat.le_of_ble_eq_true rfl) (Nat.le_of_ble_eq_true rfl) rfl rfl (Nat.le_of_ble_eq_true rfl) dX3_init_14 (fun σ5 h => ?_)
  refine r_putPF (pc := 17) C rfl fd_X3_18 fc_X3_18 ft_X3_0 (Or.inl ⟨_, rfl⟩) dX3_init_17 h (fun σ6 h => ?_)
  refine r_aload_n (pc := 20) (i := 0) C dX3_init_20 rfl rfl ?_
  refine r_bipush (pc := 21) (v := 10) C dX3_init_21 (by decide) ?_
  refine r_newaB (pc := 23) (t := 0) (atype := .int) C (by decide) rfl q192 dX3_init_23 (by decide) (N := 10) (by decide +kernel) (Nat.le_of_ble_eq_true rfl) (Nat.le_of_ble_eq_true rfl) (Nat.le_of_ble_eq_true rfl) rfl rfl h (fun p7 σ8 h => ?_)
  refine r_putPF (pc := 25) C rfl fd_X3_22 fc_X3_22 ft_X3_1 (Or.inr ⟨_, rfl⟩) dX3_init_25 h (fun σ9 h => ?_)
  refine r_aload_n (pc := 28) (i := 0) C dX3_init_28 rfl rfl ?_
  refine r_bipush (pc := 29) (v := 40) C dX3_init_29 (by decide) ?_
  refine r_newaB (pc := 31) (t := 0) (atype := .int) C (by decide) rfl q192 dX3_init_31 (by decide) (N := 40) (by decide +kernel) (Nat.le_of_ble_eq_true rfl) (Nat.le_of_ble_eq_true rfl) (Nat.le_of_ble_eq_true rfl) rfl rfl h (fun p10 σ11 h => ?_)
  refine r_putPF (pc := 33) C rfl fd_X3_26 fc_X3_26 ft_X3_2 (Or.inr ⟨_, rfl⟩) dX3_init_33 h (fun σ12 h => ?_)
  refine r_aload_n (pc := 36) (i := 0) C dX3_init_36 rfl rfl ?_
  refine r_iconst (pc := 37) (v := (-1)) C dX3_init_37 (by decide) ?_
  refine r_putI (pc := 38) C fd_X3_29 ft_X3_3 dX3_init_38 h (fun σ13 h => ?_)
  refine r_aload_n (pc := 41) (i := 0) C dX3_init_41 rfl rfl ?_
  refine r_iconst (pc := 42) (v := (-1)) C dX3_init_42 (by decide) ?_
  refine r_putI (pc := 43) C fd_X3_33 ft_X3_5 dX3_init_43 h (fun σ14 h => ?_)
  exact r_vret (pc := 46) C rfl dX3_init_46 h E
theorem t_X3_init {F : Nat} {σ : MM} {a0 : Nat} {a1 : Nat} {r : MM} (h : g_X3_init F σ a0 a1 = some r) : mT σ a0 = (2, 16) := by
  unfold g_X3_init at h
  exact (r_ck h).1
theorem fc_X0_26 : xFc RX0 26 0 0 := ⟨⟨_, rfl, rfl⟩, _, rfl, q311⟩
theorem fc_X0_34 : xFc RX0 34 0 1 := ⟨⟨_, rfl, rfl⟩, _, rfl, q312⟩
theorem xcl_X2 : xCl 1 10 RX2 := classCl _ rfl rfl rfl (by decide) in_X2 tyX2_ok (by decide +kernel)
theorem yd_X2_init : xYd yX2_init 1 := ⟨by decide +kernel, by decide +kernel, by decide +kernel⟩
theorem cs_X0_60_X2_init : xCI RX0 60 yX2_init cX2_init 2 1 := ⟨by decide, rfl, yd_X2_init, lw_meth q154, q118, q153, Or.inr ⟨_, in_nest q152 rfl⟩⟩
theorem fc_X0_37 : xFc RX0 37 0 3 := ⟨⟨_, rfl, rfl⟩, _, rfl, q314⟩
theorem xcl_X3 : xCl 2 16 RX3 := classCl _ rfl rfl rfl (by decide) in_X3 tyX3_ok (by decide +kernel)
theorem yd_X3_init : xYd yX3_init 1 := ⟨by decide +kernel, by decide +kernel, by decide +kernel⟩
theorem cs_X0_65_X3_init : xCI RX0 65 yX3_init cX3_init 2 1 := ⟨by decide, rfl, yd_X3_init, lw_meth q197, q119, q196, Or.inr ⟨_, in_nest q195 rfl⟩⟩
theorem fc_X0_66 : xFc RX0 66 0 4 := ⟨⟨_, rfl, rfl⟩, _, rfl, q316⟩
theorem fc_X0_70 : xFc RX0 70 0 5 := ⟨⟨_, rfl, rfl⟩, _, rfl, q317⟩
theorem fc_X0_73 : xFc RX0 73 0 6 := ⟨⟨_, rfl, rfl⟩, _, rfl, q318⟩
theorem fc_X0_76 : xFc RX0 76 0 7 := ⟨⟨_, rfl, rfl⟩, _, rfl, q321⟩
theorem xcl_X5 : xCl 4 4 RX5 := classCl _ rfl rfl rfl (by decide) in_X5 tyX5_ok (by decide +kernel)
theorem yd_X5_init : xYd yX5_init 0 := ⟨by decide +kernel, by decide +kernel, by decide +kernel⟩
theorem cs_X0_82_X5_init : xCI RX0 82 yX5_init cX5_init 1 0 := ⟨by decide, rfl, yd_X5_init, lw_meth q283, q121, q282, Or.inr ⟨_, in_nest q281 rfl⟩⟩
theorem cs_X0_89_X4_init : xCI RX0 89 yX4_init cX4_init 1 0 := ⟨by decide, rfl, yd_X4_init, lw_meth q203, q120, q202, Or.inr ⟨_, in_nest q309 rfl⟩⟩
theorem fc_X0_90 : xFc RX0 90 0 12 := ⟨⟨_, rfl, rfl⟩, _, rfl, q327⟩
theorem fc_X0_94 : xFc RX0 94 0 13 := ⟨⟨_, rfl, rfl⟩, _, rfl, q328⟩
theorem fc_X0_97 : xFc RX0 97 0 14 := ⟨⟨_, rfl, rfl⟩, _, rfl, q329⟩
theorem fc_X0_102 : xFc RX0 102 0 16 := ⟨⟨_, rfl, rfl⟩, _, rfl, q331⟩
theorem fc_X0_105 : xFc RX0 105 0 17 := ⟨⟨_, rfl, rfl⟩, _, rfl, q332⟩
theorem fc_X0_108 : xFc RX0 108 0 18 := ⟨⟨_, rfl, rfl⟩, _, rfl, q333⟩
theorem fc_X0_111 : xFc RX0 111 0 19 := ⟨⟨_, rfl, rfl⟩, _, rfl, q334⟩
theorem fc_X0_114 : xFc RX0 114 0 20 := ⟨⟨_, rfl, rfl⟩, _, rfl, q335⟩
theorem fc_X0_117 : xFc RX0 117 0 21 := ⟨⟨_, rfl, rfl⟩, _, rfl, q336⟩
def g_X0_init (F : Nat) (σ : MM) (a0 : Nat) : Option (MM) := if mT σ a0 = (0, 22) then (if (mT σ a0).1 ≠ 99 then (nw σ (20, 10) fun p2 σ3 => (pP σ3 a0 0 22 0 p2).bind fun σ4 => nw σ4 (20, 10) fun p5 σ6 => (pP σ6 a0 0 22 1 p5).bind fun σ7 => nw σ7 (1, 10) fun p8 σ9 => (g_X2_init F σ9 p8 a0).bind fun σ10 => (pP σ10 a0 0 22 3 p8).bind fun σ11 => nw σ11 (2, 16) fun p12 σ13 => (g_X3_init F σ13 p12 a0).bind fun σ14 => (pP σ14 a0 0 22 4 p12).bind fun σ15 => nw σ15 (2, 16) fun p16 σ17 => (g_X3_init F σ17 p16 a0).bind fun σ18 => (pP σ18 a0 0 22 5 p16).bind fun σ19 => nw σ19 (2, 16) fun p20 σ21 => (g_X3_init F σ21 p20 a0).bind fun σ22 => (pP σ22 a0 0 22 6 p20).bind fun σ23 => nw σ23 (21, 260) fun p24 σ25 => (pP σ25 a0 0 22 7 p24).bind fun σ26 => nw σ26 (4, 4) fun p27 σ28 => (g_X5_init F σ28 p27).bind fun σ29 => (pP σ29 a0 0 22 8 p27).bind fun σ30 => nw σ30 (3, 1) fun p31 σ32 => (g_X4_init F σ32 p31).bind fun σ33 => (pP σ33 a0 0 22 12 p31).bind fun σ34 => nw σ34 (20, 60) fun p35 σ36 => (pP σ36 a0 0 22 13 p35).bind fun σ37 => nw σ37 (20, 60) fun p38 σ39 => (pP σ39 a0 0 22 14 p38).bind fun σ40 => nwG σ40 fun p41 σ42 => (pP σ42 a0 0 22 16 p41).bind fun σ43 => nw σ43 (20, 6) fun p44 σ45 => (pP σ45 a0 0 22 17 p44).bind fun σ46 => nw σ46 (20, 6) fun p47 σ48 => (pP σ48 a0 0 22 18 p47).bind fun σ49 => nw σ49 (20, 12) fun p50 σ51 => (pP σ51 a0 0 22 19 p50).bind fun σ52 => nw σ52 (20, 12) fun p53 σ54 => (pP σ54 a0 0 22 20 p53).bind fun σ55 => nw σ55 (20, 1024) fun p56 σ57 => (pP σ57 a0 0 22 21 p56).bind fun σ58 => (gP σ58 a0 0 22 4).bind fun p59 => (pI σ58 p59 2 16 9 1).bind fun σ60 => some σ60) else none) else none
theorem w_X0_init {B F : Nat} {d : Nat} {σ : MM} {a0 : Nat} {σf : MM} (hd : 3 ≤ d) (h : g_X0_init F σ a0 = some σf) : xMA B yX0_init cX0_init 1 none d 83 2274 [rv B a0] σ none σf := by
  refine xMA.of (by decide +kernel) (Nat.le_of_ble_eq_true rfl) (cat_rv cat_nil) (fun G C E => ?_)
  unfold g_X0_init at h
  obtain ⟨-, h⟩ := r_ck h
  refine r_aload_n (pc := 0) (i := 0) C dX0_init_0 rfl rfl ?_
  refine r_objI (pc := 1) C q147 q148 q149 (Nat.le_trans (Nat.le_of_ble_eq_true rfl) hd) (Nat.le_of_ble_eq_true rfl) dX0_init_1 h (fun h => ?_)
  refine r_aload_n (pc := 4) (i := 0) C dX0_init_4 rfl rfl ?_
  refine r_bipush (pc := 5) (v := 10) C dX0_init_5 (by decide) ?_
  refine r_newaB (pc := 7) (t := 0) (atype := .int) C (by decide) rfl q192 dX0_init_7 (by decide) (N := 10) (by decide +kernel) (Nat.le_of_ble_eq_true rfl) (Nat.le_of_ble_eq_true rfl) (Nat.le_of_ble_eq_true rfl) rfl rfl h (fun p2 σ3 h => ?_)
  refine r_putPF (pc := 9) C rfl fd_X0_26 fc_X0_26 ft_X0_0 (Or.inr ⟨_, rfl⟩) dX0_init_9 h (fun σ4 h => ?_)
  refine r_aload_n (pc := 12) (i := 0) C dX0_init_12 rfl rfl ?_
  refine r_bipush (pc := 13) (v := 10) C dX0_init_13 (by decide) ?_
  refine r_newaB (pc := 15) (t := 0) (atype := .int) C (by decide) rfl q192 dX0_init_15 (by decide) (N := 10) (by decide +kernel) (Nat.le_of_ble_eq_true rfl) (Nat.le_of_ble_eq_true rfl) (Nat.le_of_ble_eq_true rfl) rfl rfl h (fun p5 σ6 h => ?_)
  refine r_putPF (pc := 17) C rfl fd_X0_34 fc_X0_34 ft_X0_1 (Or.inr ⟨_, rfl⟩) dX0_init_17 h (fun σ7 h => ?_)
  refine r_aload_n (pc := 20) (i := 0) C dX0_init_20 rfl rfl ?_
  refine r_newB (pc := 21) C xcl_X2 q150 q151 q118 dX0_init_21 (Nat.le_of_ble_eq_true rfl) (Nat.le_of_ble_eq_true rfl) rfl rfl h (fun p8 σ9 h => ?_)
  refine r_dup (pc := 24) C dX0_init_24 ?_
  refine r_aload_n (pc := 25) (i := 0) C dX0_init_25 rfl rfl ?_
  refine r_callI (pc := 26) (As := [rv B a0]) (st := [rv B p8, rv B a0]) C cs_X0_60_X2_init h (fun _ e => w_X2_init (Nat.le_refl 2) e) (fun _ e => by rw [t_X2_init e]; decide) (Nat.le_trans (Nat.le_of_ble_eq_true rfl) hd) (Nat.le_of_ble_eq_true rfl) (Nat.le_of_ble_eq_true rfl) rfl rfl (Nat.le_of_ble_eq_true rfl) dX0_init_26 (fun σ10 h => ?_)
  refine r_putPF (pc := 29) C rfl fd_X0_37 fc_X0_37 ft_X0_3 (Or.inl ⟨_, rfl⟩) dX0_init_29 h (fun σ11 h => ?_)
  refine r_aload_n (pc := 32) (i := 0) C dX0_init_32 rfl rfl ?_
  refine r_newB (pc := 33) C xcl_X3 q193 q194 q119 dX0_init_33 (Nat.le_of_ble_eq_true rfl) (Nat.le_of_ble_eq_true rfl) rfl rfl h (fun p12 σ13 h => ?_)
  refine r_dup (pc := 36) C dX0_init_36 ?_
  refine r_aload_n (pc := 37) (i := 0) C dX0_init_37 rfl rfl ?_
  refine r_callI (pc := 38) (As := [rv B a0]) (st := [rv B p12, rv B a0]) C cs_X0_65_X3_init h (fun _ e => w_X3_init (Nat.le_refl 2) e) (fun _ e => by rw [t_X3_init e]; decide) (Nat.le_trans (Nat.le_of_ble_eq_true rfl) hd) (Nat.le_of_ble_eq_true rfl) (Nat.le_of_ble_eq_true rfl) rfl rfl (Nat.le_of_ble_eq_true rfl) dX0_init_38 (fun σ14 h => ?_)
  refine r_putPF (pc := 41) C rfl fd_X0_66 fc_X0_66 ft_X0_4 (Or.inl ⟨_, rfl⟩) dX0_init_41 h (fun σ15 h => ?_)
  refine r_aload_n (pc := 44) (i := 0) C dX0_init_44 rfl rfl ?_
  refine r_newB (pc := 45) C xcl_X3 q193 q194 q119 dX0_init_45 (Nat.le_of_ble_eq_true rfl) (Nat.le_of_ble_eq_true rfl) rfl rfl h (fun p16 σ17 h => ?_)
  refine r_dup (pc := 48) C dX0_init_48 ?_
  refine r_aload_n (pc := 49) (i := 0) C dX0_init_49 rfl rfl ?_
  refine r_callI (pc := 50) (As := [rv B a0]) (st := [rv B p16, rv B a0]) C cs_X0_65_X3_init h (fun _ e => w_X3_init (Nat.le_refl 2) e) (fun _ e => by rw [t_X3_init e]; decide) (Nat.le_trans (Nat.le_of_ble_eq_true rfl) hd) (Nat.le_of_ble_eq_true rfl) (Nat.le_of_ble_eq_true rfl) rfl rfl (Nat.le_of_ble_eq_true rfl) dX0_init_50 (fun σ18 h => ?_)
  refine r_putPF (pc := 53) C rfl fd_X0_70 fc_X0_70 ft_X0_5 (Or.inl ⟨_, rfl⟩) dX0_init_53 h (fun σ19 h => ?_)
  refine r_aload_n (pc := 56) (i := 0) C dX0_init_56 rfl rfl ?_
  refine r_newB (pc := 57) C xcl_X3 q193 q194 q119 dX0_init_57 (Nat.le_of_ble_eq_true rfl) (Nat.le_of_ble_eq_true rfl) rfl rfl h (fun p20 σ21 h => ?_)
  refine r_dup (pc := 60) C dX0_init_60 ?_
  refine r_aload_n (pc := 61) (i := 0) C dX0_init_61 rfl rfl ?_
  refine r_callI (pc := 62) (As := [rv B a0]) (st := [rv B p20, rv B a0]) C cs_X0_65_X3_init h (fun _ e => w_X3_init (Nat.le_refl 2) e) (fun _ e => by rw [t_X3_init e]; decide) (Nat.le_trans (Nat.le_of_ble_eq_true rfl) hd) (Nat.le_of_ble_eq_true rfl) (Nat.le_of_ble_eq_true rfl) rfl rfl (Nat.le_of_ble_eq_true rfl) dX0_init_62 (fun σ22 h => ?_)
  refine r_putPF (pc := 65) C rfl fd_X0_73 fc_X0_73 ft_X0_6 (Or.inl ⟨_, rfl⟩) dX0_init_65 h (fun σ23 h => ?_)
  refine r_aload_n (pc := 68) (i := 0) C dX0_init_68 rfl rfl ?_
  refine r_sipush (pc := 69) (v := 260) C dX0_init_69 (by decide) ?_
  refine r_newaB (pc := 72) (t := 1) (atype := .byte) C (by decide) rfl q307 dX0_init_72 (by decide) (N := 260) (by decide +kernel) (Nat.le_of_ble_eq_true rfl) (Nat.le_of_ble_eq_true rfl) (Nat.le_of_ble_eq_true rfl) rfl rfl h (fun p24 σ25 h => ?_)
  refine r_putPF (pc := 74) C rfl fd_X0_76 fc_X0_76 ft_X0_7 (Or.inr ⟨_, rfl⟩) dX0_init_74 h (fun σ26 h => ?_)
  refine r_aload_n (pc := 77) (i := 0) C dX0_init_77 rfl rfl ?_
  refine r_newB (pc := 78) C xcl_X5 q279 q280 q121 dX0_init_78 (Nat.le_of_ble_eq_true rfl) (Nat.le_of_ble_eq_true rfl) rfl rfl h (fun p27 σ28 h => ?_)
  refine r_dup (pc := 81) C dX0_init_81 ?_
  refine r_callI (pc := 82) (As := []) (st := [rv B p27, rv B a0]) C cs_X0_82_X5_init h (fun _ e => w_X5_init (Nat.le_refl 1) e) (fun _ e => by rw [t_X5_init e]; decide) (Nat.le_trans (Nat.le_of_ble_eq_true rfl) hd) (Nat.le_of_ble_eq_true rfl) (Nat.le_of_ble_eq_true rfl) rfl rfl (Nat.le_of_ble_eq_true rfl) dX0_init_82 (fun σ29 h => ?_)
  refine r_putP (pc := 85) C fd_X0_83 ft_X0_8 dX0_init_85 h (fun σ30 h => ?_)
  refine r_aload_n (pc := 88) (i := 0) C dX0_init_88 rfl rfl ?_
  refine r_newB (pc := 89) C xcl_X4 q308 q200 q120 dX0_init_89 (Nat.le_of_ble_eq_true rfl) (Nat.le_of_ble_eq_true rfl) rfl rfl h (fun p31 σ32 h => ?_)
  refine r_dup (pc := 92) C dX0_init_92 ?_
  refine r_callI (pc := 93) (As := []) (st := [rv B p31, rv B a0]) C cs_X0_89_X4_init h (fun _ e => w_X4_init (Nat.le_refl 1) e) (fun _ e => by rw [t_X4_init e]; decide) (Nat.le_trans (Nat.le_of_ble_eq_true rfl) hd) (Nat.le_of_ble_eq_true rfl) (Nat.le_of_ble_eq_true rfl) rfl rfl (Nat.le_of_ble_eq_true rfl) dX0_init_93 (fun σ33 h => ?_)
  refine r_putPF (pc := 96) C rfl fd_X0_90 fc_X0_90 ft_X0_12 (Or.inl ⟨_, rfl⟩) dX0_init_96 h (fun σ34 h => ?_)
  refine r_aload_n (pc := 99) (i := 0) C dX0_init_99 rfl rfl ?_
  refine r_bipush (pc := 100) (v := 60) C dX0_init_100 (by decide) ?_
  refine r_newaB (pc := 102) (t := 0) (atype := .int) C (by decide) rfl q192 dX0_init_102 (by decide) (N := 60) (by decide +kernel) (Nat.le_of_ble_eq_true rfl) (Nat.le_of_ble_eq_true rfl) (Nat.le_of_ble_eq_true rfl) rfl rfl h (fun p35 σ36 h => ?_)
  refine r_putPF (pc := 104) C rfl fd_X0_94 fc_X0_94 ft_X0_13 (Or.inr ⟨_, rfl⟩) dX0_init_104 h (fun σ37 h => ?_)
  refine r_aload_n (pc := 107) (i := 0) C dX0_init_107 rfl rfl ?_
  refine r_bipush (pc := 108) (v := 60) C dX0_init_108 (by decide) ?_
  refine r_newaB (pc := 110) (t := 0) (atype := .int) C (by decide) rfl q192 dX0_init_110 (by decide) (N := 60) (by decide +kernel) (Nat.le_of_ble_eq_true rfl) (Nat.le_of_ble_eq_true rfl) (Nat.le_of_ble_eq_true rfl) rfl rfl h (fun p38 σ39 h => ?_)
  refine r_putPF (pc := 112) C rfl fd_X0_97 fc_X0_97 ft_X0_14 (Or.inr ⟨_, rfl⟩) dX0_init_112 h (fun σ40 h => ?_)
  refine r_aload_n (pc := 115) (i := 0) C dX0_init_115 rfl rfl ?_
  refine r_bipush (pc := 116) (v := 10) C dX0_init_116 (by decide) ?_
  refine r_bipush (pc := 118) (v := 10) C dX0_init_118 (by decide) ?_
  refine r_multiB (pc := 120) C q310 q192 dX0_init_120 (Nat.le_of_ble_eq_true rfl) (Nat.le_of_ble_eq_true rfl) rfl rfl h (fun p41 σ42 h => ?_)
  refine r_putPF (pc := 124) C rfl fd_X0_102 fc_X0_102 ft_X0_16 (Or.inr ⟨_, rfl⟩) dX0_init_124 h (fun σ43 h => ?_)
  refine r_aload_n (pc := 127) (i := 0) C dX0_init_127 rfl rfl ?_
  refine r_bipush (pc := 128) (v := 6) C dX0_init_128 (by decide) ?_
  refine r_newaB (pc := 130) (t := 0) (atype := .int) C (by decide) rfl q192 dX0_init_130 (by decide) (N := 6) (by decide +kernel) (Nat.le_of_ble_eq_true rfl) (Nat.le_of_ble_eq_true rfl) (Nat.le_of_ble_eq_true rfl) rfl rfl h (fun p44 σ45 h => ?_)
  refine r_putPF (pc := 132) C rfl fd_X0_105 fc_X0_105 ft_X0_17 (Or.inr ⟨_, rfl⟩) dX0_init_132 h (fun σ46 h => ?_)
  refine r_aload_n (pc := 135) (i := 0) C dX0_init_135 rfl rfl ?_
  refine r_bipush (pc := 136) (v := 6) C dX0_init_136 (by decide) ?_
  refine r_newaB (pc := 138) (t := 0) (atype := .int) C (by decide) rfl q192 dX0_init_138 (by decide) (N := 6) (by decide +kernel) (Nat.le_of_ble_eq_true rfl) (Nat.le_of_ble_eq_true rfl) (Nat.le_of_ble_eq_true rfl) rfl rfl h (fun p47 σ48 h => ?_)
  refine r_putPF (pc := 140) C rfl fd_X0_108 fc_X0_108 ft_X0_18 (Or.inr ⟨_, rfl⟩) dX0_init_140 h (fun σ49 h => ?_)
  refine r_aload_n (pc := 143) (i := 0) C dX0_init_143 rfl rfl ?_
  refine r_bipush (pc := 144) (v := 12) C dX0_init_144 (by decide) ?_
  refine r_newaB (pc := 146) (t := 0) (atype := .int) C (by decide) rfl q192 dX0_init_146 (by decide) (N := 12) (by decide +kernel) (Nat.le_of_ble_eq_true rfl) (Nat.le_of_ble_eq_true rfl) (Nat.le_of_ble_eq_true rfl) rfl rfl h (fun p50 σ51 h => ?_)
  refine r_putPF (pc := 148) C rfl fd_X0_111 fc_X0_111 ft_X0_19 (Or.inr ⟨_, rfl⟩) dX0_init_148 h (fun σ52 h => ?_)
  refine r_aload_n (pc := 151) (i := 0) C dX0_init_151 rfl rfl ?_
  refine r_bipush (pc := 152) (v := 12) C dX0_init_152 (by decide) ?_
  refine r_newaB (pc := 154) (t := 0) (atype := .int) C (by decide) rfl q192 dX0_init_154 (by decide) (N := 12) (by decide +kernel) (Nat.le_of_ble_eq_true rfl) (Nat.le_of_ble_eq_true rfl) (Nat.le_of_ble_eq_true rfl) rfl rfl h (fun p53 σ54 h => ?_)
  refine r_putPF (pc := 156) C rfl fd_X0_114 fc_X0_114 ft_X0_20 (Or.inr ⟨_, rfl⟩) dX0_init_156 h (fun σ55 h => ?_)
  refine r_aload_n (pc := 159) (i := 0) C dX0_init_159 rfl rfl ?_
  refine r_sipush (pc := 160) (v := 1024) C dX0_init_160 (by decide) ?_
  refine r_newaB (pc := 163) (t := 0) (atype := .int) C (by decide) rfl q192 dX0_init_163 (by decide) (N := 1024) (by decide +kernel) (Nat.le_of_ble_eq_true rfl) (Nat.le_of_ble_eq_true rfl) (Nat.le_of_ble_eq_true rfl) rfl rfl h (fun p56 σ57 h => ?_)
  refine r_putPF (pc := 165) C rfl fd_X0_117 fc_X0_117 ft_X0_21 (Or.inr ⟨_, rfl⟩) dX0_init_165 h (fun σ58 h => ?_)
  refine r_aload_n (pc := 168) (i := 0) C dX0_init_168 rfl rfl ?_
  refine r_getP (pc := 169) C fd_X0_66 rfl dX0_init_169 h (fun p59 h => ?_)
  refine r_iconst (pc := 172) (v := 1) C dX0_init_172 (by decide) ?_
  refine r_putI (pc := 173) C fd_X0_120 ft_X3_9 dX0_init_173 h (fun σ60 h => ?_)
  exact r_vret (pc := 176) C rfl dX0_init_176 h E
theorem t_X0_init {F : Nat} {σ : MM} {a0 : Nat} {r : MM} (h : g_X0_init F σ a0 = some r) : mT σ a0 = (0, 22) := by
  unfold g_X0_init at h
  exact (r_ck h).1
theorem fc_X6_7 : xFc RX6 7 5 0 := ⟨⟨_, rfl, rfl⟩, _, rfl, q1265⟩
theorem fc_X6_13 : xFc RX6 13 5 1 := ⟨⟨_, rfl, rfl⟩, _, rfl, q1266⟩
theorem fc_X6_16 : xFc RX6 16 5 2 := ⟨⟨_, rfl, rfl⟩, _, rfl, q1267⟩
theorem fc_X6_19 : xFc RX6 19 5 3 := ⟨⟨_, rfl, rfl⟩, _, rfl, q1268⟩
theorem fc_X6_22 : xFc RX6 22 5 4 := ⟨⟨_, rfl, rfl⟩, _, rfl, q1269⟩
theorem fc_X6_25 : xFc RX6 25 5 6 := ⟨⟨_, rfl, rfl⟩, _, rfl, q1271⟩
theorem fc_X6_29 : xFc RX6 29 5 17 := ⟨⟨_, rfl, rfl⟩, _, rfl, q1282⟩
theorem fc_X6_32 : xFc RX6 32 5 18 := ⟨⟨_, rfl, rfl⟩, _, rfl, q1283⟩
theorem fc_X6_35 : xFc RX6 35 5 19 := ⟨⟨_, rfl, rfl⟩, _, rfl, q1284⟩
theorem fc_X6_38 : xFc RX6 38 5 20 := ⟨⟨_, rfl, rfl⟩, _, rfl, q1285⟩
theorem fc_X6_41 : xFc RX6 41 5 21 := ⟨⟨_, rfl, rfl⟩, _, rfl, q1286⟩
theorem fc_X6_44 : xFc RX6 44 5 22 := ⟨⟨_, rfl, rfl⟩, _, rfl, q1287⟩
theorem fc_X6_47 : xFc RX6 47 5 23 := ⟨⟨_, rfl, rfl⟩, _, rfl, q1288⟩
theorem fc_X6_50 : xFc RX6 50 5 24 := ⟨⟨_, rfl, rfl⟩, _, rfl, q1289⟩
theorem fc_X6_53 : xFc RX6 53 5 25 := ⟨⟨_, rfl, rfl⟩, _, rfl, q1290⟩
theorem fc_X6_56 : xFc RX6 56 5 26 := ⟨⟨_, rfl, rfl⟩, _, rfl, q1291⟩
theorem fc_X6_59 : xFc RX6 59 5 27 := ⟨⟨_, rfl, rfl⟩, _, rfl, q1292⟩
theorem fc_X6_62 : xFc RX6 62 5 28 := ⟨⟨_, rfl, rfl⟩, _, rfl, q1293⟩
theorem fc_X6_65 : xFc RX6 65 5 29 := ⟨⟨_, rfl, rfl⟩, _, rfl, q1294⟩
theorem fc_X6_68 : xFc RX6 68 5 30 := ⟨⟨_, rfl, rfl⟩, _, rfl, q1295⟩
theorem fc_X6_71 : xFc RX6 71 5 36 := ⟨⟨_, rfl, rfl⟩, _, rfl, q1301⟩
theorem fc_X6_74 : xFc RX6 74 5 37 := ⟨⟨_, rfl, rfl⟩, _, rfl, q1302⟩
theorem fc_X6_77 : xFc RX6 77 5 38 := ⟨⟨_, rfl, rfl⟩, _, rfl, q1303⟩
theorem fc_X6_80 : xFc RX6 80 5 39 := ⟨⟨_, rfl, rfl⟩, _, rfl, q1304⟩
theorem fc_X6_83 : xFc RX6 83 5 46 := ⟨⟨_, rfl, rfl⟩, _, rfl, q1311⟩
theorem fc_X6_86 : xFc RX6 86 5 47 := ⟨⟨_, rfl, rfl⟩, _, rfl, q1312⟩
theorem fc_X6_89 : xFc RX6 89 5 48 := ⟨⟨_, rfl, rfl⟩, _, rfl, q1313⟩
theorem fc_X6_92 : xFc RX6 92 5 49 := ⟨⟨_, rfl, rfl⟩, _, rfl, q1314⟩
theorem fc_X6_96 : xFc RX6 96 5 51 := ⟨⟨_, rfl, rfl⟩, _, rfl, q1316⟩
theorem fc_X6_99 : xFc RX6 99 5 52 := ⟨⟨_, rfl, rfl⟩, _, rfl, q1317⟩
theorem fc_X6_102 : xFc RX6 102 5 53 := ⟨⟨_, rfl, rfl⟩, _, rfl, q1318⟩
theorem fc_X6_105 : xFc RX6 105 5 54 := ⟨⟨_, rfl, rfl⟩, _, rfl, q1319⟩
theorem fc_X6_108 : xFc RX6 108 5 55 := ⟨⟨_, rfl, rfl⟩, _, rfl, q1320⟩
theorem fc_X6_111 : xFc RX6 111 5 56 := ⟨⟨_, rfl, rfl⟩, _, rfl, q1321⟩
theorem fc_X6_114 : xFc RX6 114 5 57 := ⟨⟨_, rfl, rfl⟩, _, rfl, q1322⟩
theorem fc_X6_117 : xFc RX6 117 5 59 := ⟨⟨_, rfl, rfl⟩, _, rfl, q1324⟩
theorem fc_X6_120 : xFc RX6 120 5 60 := ⟨⟨_, rfl, rfl⟩, _, rfl, q1325⟩
def g_X6_init (F : Nat) (σ : MM) (a0 : Nat) : Option (MM) := if mT σ a0 = (5, 62) then (if (mT σ a0).1 ≠ 99 then (nw σ (20, 159) fun p2 σ3 => (pP σ3 a0 5 62 0 p2).bind fun σ4 => nw σ4 (20, 159) fun p5 σ6 => (pP σ6 a0 5 62 1 p5).bind fun σ7 => nw σ7 (20, 159) fun p8 σ9 => (pP σ9 a0 5 62 2 p8).bind fun σ10 => nw σ10 (20, 10) fun p11 σ12 => (pP σ12 a0 5 62 3 p11).bind fun σ13 => nw σ13 (20, 10) fun p14 σ15 => (pP σ15 a0 5 62 4 p14).bind fun σ16 => nw σ16 (21, 260) fun p17 σ18 => (pP σ18 a0 5 62 6 p17).bind fun σ19 => nw σ19 (20, 260) fun p20 σ21 => (pP σ21 a0 5 62 17 p20).bind fun σ22 => nw σ22 (20, 260) fun p23 σ24 => (pP σ24 a0 5 62 18 p23).bind fun σ25 => nw σ25 (20, 16) fun p26 σ27 => (pP σ27 a0 5 62 19 p26).bind fun σ28 => nw σ28 (20, 16) fun p29 σ30 => (pP σ30 a0 5 62 20 p29).bind fun σ31 => nw σ31 (20, 16) fun p32 σ33 => (pP σ33 a0 5 62 21 p32).bind fun σ34 => nw σ34 (20, 16) fun p35 σ36 => (pP σ36 a0 5 62 22 p35).bind fun σ37 => nw σ37 (20, 260) fun p38 σ39 => (pP σ39 a0 5 62 23 p38).bind fun σ40 => nw σ40 (20, 16) fun p41 σ42 => (pP σ42 a0 5 62 24 p41).bind fun σ43 => nw σ43 (20, 16) fun p44 σ45 => (pP σ45 a0 5 62 25 p44).bind fun σ46 => nw σ46 (20, 16) fun p47 σ48 => (pP σ48 a0 5 62 26 p47).bind fun σ49 => nw σ49 (20, 16) fun p50 σ51 => (pP σ51 a0 5 62 27 p50).bind fun σ52 => nw σ52 (20, 260) fun p53 σ54 => (pP σ54 a0 5 62 28 p53).bind fun σ55 => nw σ55 (20, 8) fun p56 σ57 => (pP σ57 a0 5 62 29 p56).bind fun σ58 => nw σ58 (20, 100) fun p59 σ60 => (pP σ60 a0 5 62 30 p59).bind fun σ61 => nw σ61 (20, 60) fun p62 σ63 => (pP σ63 a0 5 62 36 p62).bind fun σ64 => nw σ64 (20, 2) fun p65 σ66 => (pP σ66 a0 5 62 37 p65).bind fun σ67 => nw σ67 (20, 2) fun p68 σ69 => (pP σ69 a0 5 62 38 p68).bind fun σ70 => nw σ70 (20, 2) fun p71 σ72 => (pP σ72 a0 5 62 39 p71).bind fun σ73 => nw σ73 (20, 100) fun p74 σ75 => (pP σ75 a0 5 62 46 p74).bind fun σ76 => nw σ76 (20, 60) fun p77 σ78 => (pP σ78 a0 5 62 47 p77).bind fun σ79 => nw σ79 (20, 12) fun p80 σ81 => (pP σ81 a0 5 62 48 p80).bind fun σ82 => nw σ82 (20, 12) fun p83 σ84 => (pP σ84 a0 5 62 49 p83).bind fun σ85 => nw σ85 (21, 40960) fun p86 σ87 => (pP σ87 a0 5 62 51 p86).bind fun σ88 => nw σ88 (20, 100) fun p89 σ90 => (pP σ90 a0 5 62 52 p89).bind fun σ91 => nw σ91 (20, 100) fun p92 σ93 => (pP σ93 a0 5 62 53 p92).bind fun σ94 => nw σ94 (20, 6) fun p95 σ96 => (pP σ96 a0 5 62 54 p95).bind fun σ97 => nw σ97 (20, 6) fun p98 σ99 => (pP σ99 a0 5 62 55 p98).bind fun σ100 => nw σ100 (20, 6) fun p101 σ102 => (pP σ102 a0 5 62 56 p101).bind fun σ103 => nw σ103 (20, 6) fun p104 σ105 => (pP σ105 a0 5 62 57 p104).bind fun σ106 => nw σ106 (20, 1024) fun p107 σ108 => (pP σ108 a0 5 62 59 p107).bind fun σ109 => nw σ109 (20, 1024) fun p110 σ111 => (pP σ111 a0 5 62 60 p110).bind fun σ112 => (gP σ112 a0 5 62 0).bind fun p113 => (sI σ112 p113 158 1).bind fun σ114 => (gP σ114 a0 5 62 0).bind fun p115 => (sI σ114 p115 151 ((-2))).bind fun σ116 => (gP σ116 a0 5 62 0).bind fun p117 => (sI σ116 p117 153 ((-2))).bind fun σ118 => some σ118) else none) else none
theorem w_X6_init {B F : Nat} {d : Nat} {σ : MM} {a0 : Nat} {σf : MM} (hd : 1 ≤ d) (h : g_X6_init F σ a0 = some σf) : xMA B yX6_init cX6_init 1 none d 37 45515 [rv B a0] σ none σf := by
  refine xMA.of (by decide +kernel) (Nat.le_of_ble_eq_true rfl) (cat_rv cat_nil) (fun G C E => ?_)
  unfold g_X6_init at h
  obtain ⟨-, h⟩ := r_ck h
  refine r_aload_n (pc := 0) (i := 0) C dX6_init_0 rfl rfl ?_
  refine r_objI (pc := 1) C q1263 q148 q149 (Nat.le_trans (Nat.le_of_ble_eq_true rfl) hd) (Nat.le_of_ble_eq_true rfl) dX6_init_1 h (fun h => ?_)
  refine r_aload_n (pc := 4) (i := 0) C dX6_init_4 rfl rfl ?_
  refine r_sipush (pc := 5) (v := 159) C dX6_init_5 (by decide) ?_
  refine r_newaB (pc := 8) (t := 0) (atype := .int) C (by decide) rfl q192 dX6_init_8 (by decide) (N := 159) (by decide +kernel) (Nat.le_of_ble_eq_true rfl) (Nat.le_of_ble_eq_true rfl) (Nat.le_of_ble_eq_true rfl) rfl rfl h (fun p2 σ3 h => ?_)
  refine r_putPF (pc := 10) C rfl fd_X6_7 fc_X6_7 ft_X6_0 (Or.inr ⟨_, rfl⟩) dX6_init_10 h (fun σ4 h => ?_)
  refine r_aload_n (pc := 13) (i := 0) C dX6_init_13 rfl rfl ?_
  refine r_sipush (pc := 14) (v := 159) C dX6_init_14 (by decide) ?_
  refine r_newaB (pc := 17) (t := 0) (atype := .int) C (by decide) rfl q192 dX6_init_17 (by decide) (N := 159) (by decide +kernel) (Nat.le_of_ble_eq_true rfl) (Nat.le_of_ble_eq_true rfl) (Nat.le_of_ble_eq_true rfl) rfl rfl h (fun p5 σ6 h => ?_)
  refine r_putPF (pc := 19) C rfl fd_X6_13 fc_X6_13 ft_X6_1 (Or.inr ⟨_, rfl⟩) dX6_init_19 h (fun σ7 h => ?_)
  refine r_aload_n (pc := 22) (i := 0) C dX6_init_22 rfl rfl ?_
  refine r_sipush (pc := 23) (v := 159) C dX6_init_23 (by decide) ?_
  refine r_newaB (pc := 26) (t := 0) (atype := .int) C (by decide) rfl q192 dX6_init_26 (by decide) (N := 159) (by decide +kernel) (Nat.le_of_ble_eq_true rfl) (Nat.le_of_ble_eq_true rfl) (Nat.le_of_ble_eq_true rfl) rfl rfl h (fun p8 σ9 h => ?_)
  refine r_putPF (pc := 28) C rfl fd_X6_16 fc_X6_16 ft_X6_2 (Or.inr ⟨_, rfl⟩) dX6_init_28 h (fun σ10 h => ?_)
  refine r_aload_n (pc := 31) (i := 0) C dX6_init_31 rfl rfl ?_
  refine r_bipush (pc := 32) (v := 10) C dX6_init_32 (by decide) ?_
  refine r_newaB (pc := 34) (t := 0) (atype := .int) C (by decide) rfl q192 dX6_init_34 (by decide) (N := 10) (by decide +kernel) (Nat.le_of_ble_eq_true rfl) (Nat.le_of_ble_eq_true rfl) (Nat.le_of_ble_eq_true rfl) rfl rfl h (fun p11 σ12 h => ?_)
  refine r_putPF (pc := 36) C rfl fd_X6_19 fc_X6_19 ft_X6_3 (Or.inr ⟨_, rfl⟩) dX6_init_36 h (fun σ13 h => ?_)
  refine r_aload_n (pc := 39) (i := 0) C dX6_init_39 rfl rfl ?_
  refine r_bipush (pc := 40) (v := 10) C dX6_init_40 (by decide) ?_
  refine r_newaB (pc := 42) (t := 0) (atype := .int) C (by decide) rfl q192 dX6_init_42 (by decide) (N := 10) (by decide +kernel) (Nat.le_of_ble_eq_true rfl) (Nat.le_of_ble_eq_true rfl) (Nat.le_of_ble_eq_true rfl) rfl rfl h (fun p14 σ15 h => ?_)
  refine r_putPF (pc := 44) C rfl fd_X6_22 fc_X6_22 ft_X6_4 (Or.inr ⟨_, rfl⟩) dX6_init_44 h (fun σ16 h => ?_)
  refine r_aload_n (pc := 47) (i := 0) C dX6_init_47 rfl rfl ?_
  refine r_sipush (pc := 48) (v := 260) C dX6_init_48 (by decide) ?_
  refine r_newaB (pc := 51) (t := 1) (atype := .byte) C (by decide) rfl q307 dX6_init_51 (by decide) (N := 260) (by decide +kernel) (Nat.le_of_ble_eq_true rfl) (Nat.le_of_ble_eq_true rfl) (Nat.le_of_ble_eq_true rfl) rfl rfl h (fun p17 σ18 h => ?_)
  refine r_putPF (pc := 53) C rfl fd_X6_25 fc_X6_25 ft_X6_6 (Or.inr ⟨_, rfl⟩) dX6_init_53 h (fun σ19 h => ?_)
  refine r_aload_n (pc := 56) (i := 0) C dX6_init_56 rfl rfl ?_
  refine r_sipush (pc := 57) (v := 260) C dX6_init_57 (by decide) ?_
  refine r_newaB (pc := 60) (t := 0) (atype := .int) C (by decide) rfl q192 dX6_init_60 (by decide) (N := 260) (by decide +kernel) (Nat.le_of_ble_eq_true rfl) (Nat.le_of_ble_eq_true rfl) (Nat.le_of_ble_eq_true rfl) rfl rfl h (fun p20 σ21 h => ?_)
  refine r_putPF (pc := 62) C rfl fd_X6_29 fc_X6_29 ft_X6_17 (Or.inr ⟨_, rfl⟩) dX6_init_62 h (fun σ22 h => ?_)
  refine r_aload_n (pc := 65) (i := 0) C dX6_init_65 rfl rfl ?_
  refine r_sipush (pc := 66) (v := 260) C dX6_init_66 (by decide) ?_
  refine r_newaB (pc := 69) (t := 0) (atype := .int) C (by decide) rfl q192 dX6_init_69 (by decide) (N := 260) (by decide +kernel) (Nat.le_of_ble_eq_true rfl) (Nat.le_of_ble_eq_true rfl) (Nat.le_of_ble_eq_true rfl) rfl rfl h (fun p23 σ24 h => ?_)
  refine r_putPF (pc := 71) C rfl fd_X6_32 fc_X6_32 ft_X6_18 (Or.inr ⟨_, rfl⟩) dX6_init_71 h (fun σ25 h => ?_)
  refine r_aload_n (pc := 74) (i := 0) C dX6_init_74 rfl rfl ?_
  refine r_bipush (pc := 75) (v := 16) C dX6_init_75 (by decide) ?_
  refine r_newaB (pc := 77) (t := 0) (atype := .int) C (by decide) rfl q192 dX6_init_77 (by decide) (N := 16) (by decide +kernel) (Nat.le_of_ble_eq_true rfl) (Nat.le_of_ble_eq_true rfl) (Nat.le_of_ble_eq_true rfl) rfl rfl h (fun p26 σ27 h => ?_)
  refine r_putPF (pc := 79) C rfl fd_X6_35 fc_X6_35 ft_X6_19 (Or.inr ⟨_, rfl⟩) dX6_init_79 h (fun σ28 h => ?_)
  refine r_aload_n (pc := 82) (i := 0) C dX6_init_82 rfl rfl ?_
  refine r_bipush (pc := 83) (v := 16) C dX6_init_83 (by decide) ?_
  refine r_newaB (pc := 85) (t := 0) (atype := .int) C (by decide) rfl q192 dX6_init_85 (by decide) (N := 16) (by decide +kernel) (Nat.le_of_ble_eq_true rfl) (Nat.le_of_ble_eq_true rfl) (Nat.le_of_ble_eq_true rfl) rfl rfl h (fun p29 σ30 h => ?_)
  refine r_putPF (pc := 87) C rfl fd_X6_38 fc_X6_38 ft_X6_20 (Or.inr ⟨_, rfl⟩) dX6_init_87 h (fun σ31 h => ?_)
  refine r_aload_n (pc := 90) (i := 0) C dX6_init_90 rfl rfl ?_
  refine r_bipush (pc := 91) (v := 16) C dX6_init_91 (by decide) ?_
  refine r_newaB (pc := 93) (t := 0) (atype := .int) C (by decide) rfl q192 dX6_init_93 (by decide) (N := 16) (by decide +kernel) (Nat.le_of_ble_eq_true rfl) (Nat.le_of_ble_eq_true rfl) (Nat.le_of_ble_eq_true rfl) rfl rfl h (fun p32 σ33 h => ?_)
  refine r_putPF (pc := 95) C rfl fd_X6_41 fc_X6_41 ft_X6_21 (Or.inr ⟨_, rfl⟩) dX6_init_95 h (fun σ34 h => ?_)
  refine r_aload_n (pc := 98) (i := 0) C dX6_init_98 rfl rfl ?_
  refine r_bipush (pc := 99) (v := 16) C dX6_init_99 (by decide) ?_
  refine r_newaB (pc := 101) (t := 0) (atype := .int) C (by decide) rfl q192 dX6_init_101 (by decide) (N := 16) (by decide +kernel) (Nat.le_of_ble_eq_true rfl) (Nat.le_of_ble_eq_true rfl) (Nat.le_of_ble_eq_true rfl) rfl rfl h (fun p35 σ36 h => ?_)
  refine r_putPF (pc := 103) C rfl fd_X6_44 fc_X6_44 ft_X6_22 (Or.inr ⟨_, rfl⟩) dX6_init_103 h (fun σ37 h => ?_)
  refine r_aload_n (pc := 106) (i := 0) C dX6_init_106 rfl rfl ?_
  refine r_sipush (pc := 107) (v := 260) C dX6_init_107 (by decide) ?_
  refine r_newaB (pc := 110) (t := 0) (atype := .int) C (by decide) rfl q192 dX6_init_110 (by decide) (N := 260) (by decide +kernel) (Nat.le_of_ble_eq_true rfl) (Nat.le_of_ble_eq_true rfl) (Nat.le_of_ble_eq_true rfl) rfl rfl h (fun p38 σ39 h => ?_)
  refine r_putPF (pc := 112) C rfl fd_X6_47 fc_X6_47 ft_X6_23 (Or.inr ⟨_, rfl⟩) dX6_init_112 h (fun σ40 h => ?_)
  refine r_aload_n (pc := 115) (i := 0) C dX6_init_115 rfl rfl ?_
  refine r_bipush (pc := 116) (v := 16) C dX6_init_116 (by decide) ?_
  refine r_newaB (pc := 118) (t := 0) (atype := .int) C (by decide) rfl q192 dX6_init_118 (by decide) (N := 16) (by decide +kernel) (Nat.le_of_ble_eq_true rfl) (Nat.le_of_ble_eq_true rfl) (Nat.le_of_ble_eq_true rfl) rfl rfl h (fun p41 σ42 h => ?_)
  refine r_putPF (pc := 120) C rfl fd_X6_50 fc_X6_50 ft_X6_24 (Or.inr ⟨_, rfl⟩) dX6_init_120 h (fun σ43 h => ?_)
  refine r_aload_n (pc := 123) (i := 0) C dX6_init_123 rfl rfl ?_
  refine r_bipush (pc := 124) (v := 16) C dX6_init_124 (by decide) ?_
  refine r_newaB (pc := 126) (t := 0) (atype := .int) C (by decide) rfl q192 dX6_init_126 (by decide) (N := 16) (by decide +kernel) (Nat.le_of_ble_eq_true rfl) (Nat.le_of_ble_eq_true rfl) (Nat.le_of_ble_eq_true rfl) rfl rfl h (fun p44 σ45 h => ?_)
  refine r_putPF (pc := 128) C rfl fd_X6_53 fc_X6_53 ft_X6_25 (Or.inr ⟨_, rfl⟩) dX6_init_128 h (fun σ46 h => ?_)
  refine r_aload_n (pc := 131) (i := 0) C dX6_init_131 rfl rfl ?_
  refine r_bipush (pc := 132) (v := 16) C dX6_init_132 (by decide) ?_
  refine r_newaB (pc := 134) (t := 0) (atype := .int) C (by decide) rfl q192 dX6_init_134 (by decide) (N := 16) (by decide +kernel) (Nat.le_of_ble_eq_true rfl) (Nat.le_of_ble_eq_true rfl) (Nat.le_of_ble_eq_true rfl) rfl rfl h (fun p47 σ48 h => ?_)
  refine r_putPF (pc := 136) C rfl fd_X6_56 fc_X6_56 ft_X6_26 (Or.inr ⟨_, rfl⟩) dX6_init_136 h (fun σ49 h => ?_)
  refine r_aload_n (pc := 139) (i := 0) C dX6_init_139 rfl rfl ?_
  refine r_bipush (pc := 140) (v := 16) C dX6_init_140 (by decide) ?_
  refine r_newaB (pc := 142) (t := 0) (atype := .int) C (by decide) rfl q192 dX6_init_142 (by decide) (N := 16) (by decide +kernel) (Nat.le_of_ble_eq_true rfl) (Nat.le_of_ble_eq_true rfl) (Nat.le_of_ble_eq_true rfl) rfl rfl h (fun p50 σ51 h => ?_)
  refine r_putPF (pc := 144) C rfl fd_X6_59 fc_X6_59 ft_X6_27 (Or.inr ⟨_, rfl⟩) dX6_init_144 h (fun σ52 h => ?_)
  refine r_aload_n (pc := 147) (i := 0) C dX6_init_147 rfl rfl ?_
  refine r_sipush (pc := 148) (v := 260) C dX6_init_148 (by decide) ?_
  refine r_newaB (pc := 151) (t := 0) (atype := .int) C (by decide) rfl q192 dX6_init_151 (by decide) (N := 260) (by decide +kernel) (Nat.le_of_ble_eq_true rfl) (Nat.le_of_ble_eq_true rfl) (Nat.le_of_ble_eq_true rfl) rfl rfl h (fun p53 σ54 h => ?_)
  refine r_putPF (pc := 153) C rfl fd_X6_62 fc_X6_62 ft_X6_28 (Or.inr ⟨_, rfl⟩) dX6_init_153 h (fun σ55 h => ?_)
  refine r_aload_n (pc := 156) (i := 0) C dX6_init_156 rfl rfl ?_
  refine r_bipush (pc := 157) (v := 8) C dX6_init_157 (by decide) ?_
  refine r_newaB (pc := 159) (t := 0) (atype := .int) C (by decide) rfl q192 dX6_init_159 (by decide) (N := 8) (by decide +kernel) (Nat.le_of_ble_eq_true rfl) (Nat.le_of_ble_eq_true rfl) (Nat.le_of_ble_eq_true rfl) rfl rfl h (fun p56 σ57 h => ?_)
  refine r_putPF (pc := 161) C rfl fd_X6_65 fc_X6_65 ft_X6_29 (Or.inr ⟨_, rfl⟩) dX6_init_161 h (fun σ58 h => ?_)
  refine r_aload_n (pc := 164) (i := 0) C dX6_init_164 rfl rfl ?_
  refine r_bipush (pc := 165) (v := 100) C dX6_init_165 (by decide) ?_
  refine r_newaB (pc := 167) (t := 0) (atype := .int) C (by decide) rfl q192 dX6_init_167 (by decide) (N := 100) (by decide +kernel) (Nat.le_of_ble_eq_true rfl) (Nat.le_of_ble_eq_true rfl) (Nat.le_of_ble_eq_true rfl) rfl rfl h (fun p59 σ60 h => ?_)
  refine r_putPF (pc := 169) C rfl fd_X6_68 fc_X6_68 ft_X6_30 (Or.inr ⟨_, rfl⟩) dX6_init_169 h (fun σ61 h => ?_)
  refine r_aload_n (pc := 172) (i := 0) C dX6_init_172 rfl rfl ?_
  refine r_bipush (pc := 173) (v := 60) C dX6_init_173 (by decide) ?_
  refine r_newaB (pc := 175) (t := 0) (atype := .int) C (by decide) rfl q192 dX6_init_175 (by decide) (N := 60) (by decide +kernel) (Nat.le_of_ble_eq_true rfl) (Nat.le_of_ble_eq_true rfl) (Nat.le_of_ble_eq_true rfl) rfl rfl h (fun p62 σ63 h => ?_)
  refine r_putPF (pc := 177) C rfl fd_X6_71 fc_X6_71 ft_X6_36 (Or.inr ⟨_, rfl⟩) dX6_init_177 h (fun σ64 h => ?_)
  refine r_aload_n (pc := 180) (i := 0) C dX6_init_180 rfl rfl ?_
  refine r_iconst (pc := 181) (v := 2) C dX6_init_181 (by decide) ?_
  refine r_newaB (pc := 182) (t := 0) (atype := .int) C (by decide) rfl q192 dX6_init_182 (by decide) (N := 2) (by decide +kernel) (Nat.le_of_ble_eq_true rfl) (Nat.le_of_ble_eq_true rfl) (Nat.le_of_ble_eq_true rfl) rfl rfl h (fun p65 σ66 h => ?_)
  refine r_putPF (pc := 184) C rfl fd_X6_74 fc_X6_74 ft_X6_37 (Or.inr ⟨_, rfl⟩) dX6_init_184 h (fun σ67 h => ?_)
  refine r_aload_n (pc := 187) (i := 0) C dX6_init_187 rfl rfl ?_
  refine r_iconst (pc := 188) (v := 2) C dX6_init_188 (by decide) ?_
  refine r_newaB (pc := 189) (t := 0) (atype := .int) C (by decide) rfl q192 dX6_init_189 (by decide) (N := 2) (by decide +kernel) (Nat.le_of_ble_eq_true rfl) (Nat.le_of_ble_eq_true rfl) (Nat.le_of_ble_eq_true rfl) rfl rfl h (fun p68 σ69 h => ?_)
  refine r_putPF (pc := 191) C rfl fd_X6_77 fc_X6_77 ft_X6_38 (Or.inr ⟨_, rfl⟩) dX6_init_191 h (fun σ70 h => ?_)
  refine r_aload_n (pc := 194) (i := 0) C dX6_init_194 rfl rfl ?_
  refine r_iconst (pc := 195) (v := 2) C dX6_init_195 (by decide) ?_
  refine r_newaB (pc := 196) (t := 0) (atype := .int) C (by decide) rfl q192 dX6_init_196 (by decide) (N := 2) (by decide +kernel) (Nat.le_of_ble_eq_true rfl) (Nat.le_of_ble_eq_true rfl) (Nat.le_of_ble_eq_true rfl) rfl rfl h (fun p71 σ72 h => ?_)
  refine r_putPF (pc := 198) C rfl fd_X6_80 fc_X6_80 ft_X6_39 (Or.inr ⟨_, rfl⟩) dX6_init_198 h (fun σ73 h => ?_)
  refine r_aload_n (pc := 201) (i := 0) C dX6_init_201 rfl rfl ?_
  refine r_bipush (pc := 202) (v := 100) C dX6_init_202 (by decide) ?_
  refine r_newaB (pc := 204) (t := 0) (atype := .int) C (by decide) rfl q192 dX6_init_204 (by decide) (N := 100) (by decide +kernel) (Nat.le_of_ble_eq_true rfl) (Nat.le_of_ble_eq_true rfl) (Nat.le_of_ble_eq_true rfl) rfl rfl h (fun p74 σ75 h => ?_)
  refine r_putPF (pc := 206) C rfl fd_X6_83 fc_X6_83 ft_X6_46 (Or.inr ⟨_, rfl⟩) dX6_init_206 h (fun σ76 h => ?_)
  refine r_aload_n (pc := 209) (i := 0) C dX6_init_209 rfl rfl ?_
  refine r_bipush (pc := 210) (v := 60) C dX6_init_210 (by decide) ?_
  refine r_newaB (pc := 212) (t := 0) (atype := .int) C (by decide) rfl q192 dX6_init_212 (by decide) (N := 60) (by decide +kernel) (Nat.le_of_ble_eq_true rfl) (Nat.le_of_ble_eq_true rfl) (Nat.le_of_ble_eq_true rfl) rfl rfl h (fun p77 σ78 h => ?_)
  refine r_putPF (pc := 214) C rfl fd_X6_86 fc_X6_86 ft_X6_47 (Or.inr ⟨_, rfl⟩) dX6_init_214 h (fun σ79 h => ?_)
  refine r_aload_n (pc := 217) (i := 0) C dX6_init_217 rfl rfl ?_
  refine r_bipush (pc := 218) (v := 12) C dX6_init_218 (by decide) ?_
  refine r_newaB (pc := 220) (t := 0) (atype := .int) C (by decide) rfl q192 dX6_init_220 (by decide) (N := 12) (by decide +kernel) (Nat.le_of_ble_eq_true rfl) (Nat.le_of_ble_eq_true rfl) (Nat.le_of_ble_eq_true rfl) rfl rfl h (fun p80 σ81 h => ?_)
  refine r_putPF (pc := 222) C rfl fd_X6_89 fc_X6_89 ft_X6_48 (Or.inr ⟨_, rfl⟩) dX6_init_222 h (fun σ82 h => ?_)
  refine r_aload_n (pc := 225) (i := 0) C dX6_init_225 rfl rfl ?_
  refine r_bipush (pc := 226) (v := 12) C dX6_init_226 (by decide) ?_
  refine r_newaB (pc := 228) (t := 0) (atype := .int) C (by decide) rfl q192 dX6_init_228 (by decide) (N := 12) (by decide +kernel) (Nat.le_of_ble_eq_true rfl) (Nat.le_of_ble_eq_true rfl) (Nat.le_of_ble_eq_true rfl) rfl rfl h (fun p83 σ84 h => ?_)
  refine r_putPF (pc := 230) C rfl fd_X6_92 fc_X6_92 ft_X6_49 (Or.inr ⟨_, rfl⟩) dX6_init_230 h (fun σ85 h => ?_)
  refine r_aload_n (pc := 233) (i := 0) C dX6_init_233 rfl rfl ?_
  refine r_ldc (pc := 234) C q1264 dX6_init_234 ?_
  refine r_newaB (pc := 236) (t := 1) (atype := .byte) C (by decide) rfl q307 dX6_init_236 (by decide) (N := 40960) (by decide +kernel) (Nat.le_of_ble_eq_true rfl) (Nat.le_of_ble_eq_true rfl) (Nat.le_of_ble_eq_true rfl) rfl rfl h (fun p86 σ87 h => ?_)
  refine r_putPF (pc := 238) C rfl fd_X6_96 fc_X6_96 ft_X6_51 (Or.inr ⟨_, rfl⟩) dX6_init_238 h (fun σ88 h => ?_)
  refine r_aload_n (pc := 241) (i := 0) C dX6_init_241 rfl rfl ?_
  refine r_bipush (pc := 242) (v := 100) C dX6_init_242 (by decide) ?_
  refine r_newaB (pc := 244) (t := 0) (atype := .int) C (by decide) rfl q192 dX6_init_244 (by decide) (N := 100) (by decide +kernel) (Nat.le_of_ble_eq_true rfl) (Nat.le_of_ble_eq_true rfl) (Nat.le_of_ble_eq_true rfl) rfl rfl h (fun p89 σ90 h => ?_)
  refine r_putPF (pc := 246) C rfl fd_X6_99 fc_X6_99 ft_X6_52 (Or.inr ⟨_, rfl⟩) dX6_init_246 h (fun σ91 h => ?_)
  refine r_aload_n (pc := 249) (i := 0) C dX6_init_249 rfl rfl ?_
  refine r_bipush (pc := 250) (v := 100) C dX6_init_250 (by decide) ?_
  refine r_newaB (pc := 252) (t := 0) (atype := .int) C (by decide) rfl q192 dX6_init_252 (by decide) (N := 100) (by decide +kernel) (Nat.le_of_ble_eq_true rfl) (Nat.le_of_ble_eq_true rfl) (Nat.le_of_ble_eq_true rfl) rfl rfl h (fun p92 σ93 h => ?_)
  refine r_putPF (pc := 254) C rfl fd_X6_102 fc_X6_102 ft_X6_53 (Or.inr ⟨_, rfl⟩) dX6_init_254 h (fun σ94 h => ?_)
  refine r_aload_n (pc := 257) (i := 0) C dX6_init_257 rfl rfl ?_
  refine r_bipush (pc := 258) (v := 6) C dX6_init_258 (by decide) ?_
  refine r_newaB (pc := 260) (t := 0) (atype := .int) C (by decide) rfl q192 dX6_init_260 (by decide) (N := 6) (by decide +kernel) (Nat.le_of_ble_eq_true rfl) (Nat.le_of_ble_eq_true rfl) (Nat.le_of_ble_eq_true rfl) rfl rfl h (fun p95 σ96 h => ?_)
  refine r_putPF (pc := 262) C rfl fd_X6_105 fc_X6_105 ft_X6_54 (Or.inr ⟨_, rfl⟩) dX6_init_262 h (fun σ97 h => ?_)
  refine r_aload_n (pc := 265) (i := 0) C dX6_init_265 rfl rfl ?_
  refine r_bipush (pc := 266) (v := 6) C dX6_init_266 (by decide) ?_
  refine r_newaB (pc := 268) (t := 0) (atype := .int) C (by decide) rfl q192 dX6_init_268 (by decide) (N := 6) (by decide +kernel) (Nat.le_of_ble_eq_true rfl) (Nat.le_of_ble_eq_true rfl) (Nat.le_of_ble_eq_true rfl) rfl rfl h (fun p98 σ99 h => ?_)
  refine r_putPF (pc := 270) C rfl fd_X6_108 fc_X6_108 ft_X6_55 (Or.inr ⟨_, rfl⟩) dX6_init_270 h (fun σ100 h => ?_)
  refine r_aload_n (pc := 273) (i := 0) C dX6_init_273 rfl rfl ?_
  refine r_bipush (pc := 274) (v := 6) C dX6_init_274 (by decide) ?_
  refine r_newaB (pc := 276) (t := 0) (atype := .int) C (by decide) rfl q192 dX6_init_276 (by decide) (N := 6) (by decide +kernel) (Nat.le_of_ble_eq_true rfl) (Nat.le_of_ble_eq_true rfl) (Nat.le_of_ble_eq_true rfl) rfl rfl h (fun p101 σ102 h => ?_)
  refine r_putPF (pc := 278) C rfl fd_X6_111 fc_X6_111 ft_X6_56 (Or.inr ⟨_, rfl⟩) dX6_init_278 h (fun σ103 h => ?_)
  refine r_aload_n (pc := 281) (i := 0) C dX6_init_281 rfl rfl ?_
  refine r_bipush (pc := 282) (v := 6) C dX6_init_282 (by decide) ?_
  refine r_newaB (pc := 284) (t := 0) (atype := .int) C (by decide) rfl q192 dX6_init_284 (by decide) (N := 6) (by decide +kernel) (Nat.le_of_ble_eq_true rfl) (Nat.le_of_ble_eq_true rfl) (Nat.le_of_ble_eq_true rfl) rfl rfl h (fun p104 σ105 h => ?_)
  refine r_putPF (pc := 286) C rfl fd_X6_114 fc_X6_114 ft_X6_57 (Or.inr ⟨_, rfl⟩) dX6_init_286 h (fun σ106 h => ?_)
  refine r_aload_n (pc := 289) (i := 0) C dX6_init_289 rfl rfl ?_
  refine r_sipush (pc := 290) (v := 1024) C dX6_init_290 (by decide) ?_
  refine r_newaB (pc := 293) (t := 0) (atype := .int) C (by decide) rfl q192 dX6_init_293 (by decide) (N := 1024) (by decide +kernel) (Nat.le_of_ble_eq_true rfl) (Nat.le_of_ble_eq_true rfl) (Nat.le_of_ble_eq_true rfl) rfl rfl h (fun p107 σ108 h => ?_)
  refine r_putPF (pc := 295) C rfl fd_X6_117 fc_X6_117 ft_X6_59 (Or.inr ⟨_, rfl⟩) dX6_init_295 h (fun σ109 h => ?_)
  refine r_aload_n (pc := 298) (i := 0) C dX6_init_298 rfl rfl ?_
  refine r_sipush (pc := 299) (v := 1024) C dX6_init_299 (by decide) ?_
  refine r_newaB (pc := 302) (t := 0) (atype := .int) C (by decide) rfl q192 dX6_init_302 (by decide) (N := 1024) (by decide +kernel) (Nat.le_of_ble_eq_true rfl) (Nat.le_of_ble_eq_true rfl) (Nat.le_of_ble_eq_true rfl) rfl rfl h (fun p110 σ111 h => ?_)
  refine r_putPF (pc := 304) C rfl fd_X6_120 fc_X6_120 ft_X6_60 (Or.inr ⟨_, rfl⟩) dX6_init_304 h (fun σ112 h => ?_)
  refine r_aload_n (pc := 307) (i := 0) C dX6_init_307 rfl rfl ?_
  refine r_getP (pc := 308) C fd_X6_7 rfl dX6_init_308 h (fun p113 h => ?_)
  refine r_sipush (pc := 311) (v := 158) C dX6_init_311 (by decide) ?_
  refine r_iconst (pc := 314) (v := 1) C dX6_init_314 (by decide) ?_
  refine r_iast (pc := 315) C dX6_init_315 h (fun σ114 h => ?_)
  refine r_aload_n (pc := 316) (i := 0) C dX6_init_316 rfl rfl ?_
  refine r_getP (pc := 317) C fd_X6_7 rfl dX6_init_317 h (fun p115 h => ?_)
  refine r_sipush (pc := 320) (v := 151) C dX6_init_320 (by decide) ?_
  refine r_bipush (pc := 323) (v := (-2)) C dX6_init_323 (by decide) ?_
  refine r_iast (pc := 325) C dX6_init_325 h (fun σ116 h => ?_)
  refine r_aload_n (pc := 326) (i := 0) C dX6_init_326 rfl rfl ?_
  refine r_getP (pc := 327) C fd_X6_7 rfl dX6_init_327 h (fun p117 h => ?_)
  refine r_sipush (pc := 330) (v := 153) C dX6_init_330 (by decide) ?_
  refine r_bipush (pc := 333) (v := (-2)) C dX6_init_333 (by decide) ?_
  refine r_iast (pc := 335) C dX6_init_335 h (fun σ118 h => ?_)
  exact r_vret (pc := 336) C rfl dX6_init_336 h E
theorem t_X6_init {F : Nat} {σ : MM} {a0 : Nat} {r : MM} (h : g_X6_init F σ a0 = some r) : mT σ a0 = (5, 62) := by
  unfold g_X6_init at h
  exact (r_ck h).1
def g_X8_init (F : Nat) (σ : MM) (a0 : Nat) : Option (MM) := if (mT σ a0).1 ≠ 99 then (if (mT σ a0).1 ≠ 99 then (some σ) else none) else none
theorem w_X8_init {B F : Nat} {d : Nat} {σ : MM} {a0 : Nat} {σf : MM} (hd : 1 ≤ d) (h : g_X8_init F σ a0 = some σf) : xMA B yX8_init cX8_init 1 none d 0 0 [rv B a0] σ none σf := by
  refine xMA.of (by decide +kernel) (Nat.le_of_ble_eq_true rfl) (cat_rv cat_nil) (fun G C E => ?_)
  unfold g_X8_init at h
  obtain ⟨-, h⟩ := r_ck h
  refine r_aload_n (pc := 0) (i := 0) C dX8_init_0 rfl rfl ?_
  refine r_objI (pc := 1) C q595 q148 q149 (Nat.le_trans (Nat.le_of_ble_eq_true rfl) hd) (Nat.le_of_ble_eq_true rfl) dX8_init_1 h (fun h => ?_)
  exact r_vret (pc := 4) C rfl dX8_init_4 h E
theorem t_X8_init {F : Nat} {σ : MM} {a0 : Nat} {r : MM} (h : g_X8_init F σ a0 = some r) : (mT σ a0).1 ≠ 99 := by
  unfold g_X8_init at h
  exact (r_ck h).1
theorem yd_X8_init : xYd yX8_init 0 := ⟨by decide +kernel, by decide +kernel, by decide +kernel⟩
theorem cs_X9_1_X8_init : xCI RX9 1 yX8_init cX8_init 1 0 := ⟨by decide, rfl, yd_X8_init, lw_meth q594, q130, q593, Or.inr ⟨_, in_nest q614 rfl⟩⟩
theorem fc_X9_7 : xFc RX9 7 7 0 := ⟨⟨_, rfl, rfl⟩, _, rfl, q615⟩
theorem fc_X9_13 : xFc RX9 13 7 1 := ⟨⟨_, rfl, rfl⟩, _, rfl, q616⟩
def g_X9_init (F : Nat) (σ : MM) (a0 : Nat) (x1 : Int32) (a2 : Nat) : Option (MM) := if mT σ a0 = (7, 3) then ((g_X8_init F σ a0).bind fun σ1 => (pI σ1 a0 7 3 0 x1).bind fun σ2 => (pP σ2 a0 7 3 1 a2).bind fun σ3 => some σ3) else none
theorem w_X9_init {B F : Nat} {d : Nat} {σ : MM} {a0 : Nat} {x1 : Int32} {a2 : Nat} {σf : MM} (hd : 2 ≤ d) (h : g_X9_init F σ a0 x1 a2 = some σf) : xMA B yX9_init cX9_init 3 none d 0 0 [rv B a0, .int x1, rv B a2] σ none σf := by
  refine xMA.of (by decide +kernel) (Nat.le_of_ble_eq_true rfl) (cat_rv (cat_int (cat_rv cat_nil))) (fun G C E => ?_)
  unfold g_X9_init at h
  obtain ⟨-, h⟩ := r_ck h
  refine r_aload_n (pc := 0) (i := 0) C dX9_init_0 rfl rfl ?_
  refine r_callI (pc := 1) (As := []) (st := []) C cs_X9_1_X8_init h (fun _ e => w_X8_init (Nat.le_refl 1) e) (fun _ e => t_X8_init e) (Nat.le_trans (Nat.le_of_ble_eq_true rfl) hd) (Nat.le_of_ble_eq_true rfl) (Nat.le_of_ble_eq_true rfl) rfl rfl (Nat.le_of_ble_eq_true rfl) dX9_init_1 (fun σ1 h => ?_)
  refine r_aload_n (pc := 4) (i := 0) C dX9_init_4 rfl rfl ?_
  refine r_iload_n (pc := 5) (i := 1) C dX9_init_5 rfl rfl ?_
  refine r_putIF (pc := 6) C rfl fd_X9_7 fc_X9_7 ft_X9_0 dX9_init_6 h (fun σ2 h => ?_)
  refine r_aload_n (pc := 9) (i := 0) C dX9_init_9 rfl rfl ?_
  refine r_aload_n (pc := 10) (i := 2) C dX9_init_10 rfl rfl ?_
  refine r_putPF (pc := 11) C rfl fd_X9_13 fc_X9_13 ft_X9_1 (Or.inl ⟨_, rfl⟩) dX9_init_11 h (fun σ3 h => ?_)
  exact r_vret (pc := 14) C rfl dX9_init_14 h E
theorem t_X9_init {F : Nat} {σ : MM} {a0 : Nat} {x1 : Int32} {a2 : Nat} {r : MM} (h : g_X9_init F σ a0 x1 a2 = some r) : mT σ a0 = (7, 3) := by
  unfold g_X9_init at h
  exact (r_ck h).1
theorem cs_X10_1_X8_init : xCI RX10 1 yX8_init cX8_init 1 0 := ⟨by decide, rfl, yd_X8_init, lw_meth q594, q130, q593, Or.inr ⟨_, in_nest q592 rfl⟩⟩
theorem fc_X10_7 : xFc RX10 7 8 0 := ⟨⟨_, rfl, rfl⟩, _, rfl, q596⟩
def g_X10_init (F : Nat) (σ : MM) (a0 : Nat) (x1 : Int32) : Option (MM) := if mT σ a0 = (8, 1) then ((g_X8_init F σ a0).bind fun σ1 => (pI σ1 a0 8 1 0 x1).bind fun σ2 => some σ2) else none
theorem w_X10_init {B F : Nat} {d : Nat} {σ : MM} {a0 : Nat} {x1 : Int32} {σf : MM} (hd : 2 ≤ d) (h : g_X10_init F σ a0 x1 = some σf) : xMA B yX10_init cX10_init 2 none d 0 0 [rv B a0, .int x1] σ none σf := by
  refine xMA.of (by decide +kernel) (Nat.le_of_ble_eq_true rfl) (cat_rv (cat_int cat_nil)) (fun G C E => ?_)
  unfold g_X10_init at h
  obtain ⟨-, h⟩ := r_ck h
  refine r_aload_n (pc := 0) (i := 0) C dX10_init_0 rfl rfl ?_
  refine r_callI (pc := 1) (As := []) (st := []) C cs_X10_1_X8_init h (fun _ e => w_X8_init (Nat.le_refl 1) e) (fun _ e => t_X8_init e) (Nat.le_trans (Nat.le_of_ble_eq_true rfl) hd) (Nat.le_of_ble_eq_true rfl) (Nat.le_of_ble_eq_true rfl) rfl rfl (Nat.le_of_ble_eq_true rfl) dX10_init_1 (fun σ1 h => ?_)
  refine r_aload_n (pc := 4) (i := 0) C dX10_init_4 rfl rfl ?_
  refine r_iload_n (pc := 5) (i := 1) C dX10_init_5 rfl rfl ?_
  refine r_putIF (pc := 6) C rfl fd_X10_7 fc_X10_7 ft_X10_0 dX10_init_6 h (fun σ2 h => ?_)
  exact r_vret (pc := 9) C rfl dX10_init_9 h E
theorem t_X10_init {F : Nat} {σ : MM} {a0 : Nat} {x1 : Int32} {r : MM} (h : g_X10_init F σ a0 x1 = some r) : mT σ a0 = (8, 1) := by
  unfold g_X10_init at h
  exact (r_ck h).1
theorem cs_X11_1_X8_init : xCI RX11 1 yX8_init cX8_init 1 0 := ⟨by decide, rfl, yd_X8_init, lw_meth q594, q130, q593, Or.inr ⟨_, in_nest q606 rfl⟩⟩
theorem fc_X11_7 : xFc RX11 7 9 0 := ⟨⟨_, rfl, rfl⟩, _, rfl, q607⟩
def g_X11_init (F : Nat) (σ : MM) (a0 : Nat) (x1 : Int32) : Option (MM) := if mT σ a0 = (9, 1) then ((g_X8_init F σ a0).bind fun σ1 => (pI σ1 a0 9 1 0 x1).bind fun σ2 => some σ2) else none
theorem w_X11_init {B F : Nat} {d : Nat} {σ : MM} {a0 : Nat} {x1 : Int32} {σf : MM} (hd : 2 ≤ d) (h : g_X11_init F σ a0 x1 = some σf) : xMA B yX11_init cX11_init 2 none d 0 0 [rv B a0, .int x1] σ none σf := by
  refine xMA.of (by decide +kernel) (Nat.le_of_ble_eq_true rfl) (cat_rv (cat_int cat_nil)) (fun G C E => ?_)
  unfold g_X11_init at h
  obtain ⟨-, h⟩ := r_ck h
  refine r_aload_n (pc := 0) (i := 0) C dX11_init_0 rfl rfl ?_
  refine r_callI (pc := 1) (As := []) (st := []) C cs_X11_1_X8_init h (fun _ e => w_X8_init (Nat.le_refl 1) e) (fun _ e => t_X8_init e) (Nat.le_trans (Nat.le_of_ble_eq_true rfl) hd) (Nat.le_of_ble_eq_true rfl) (Nat.le_of_ble_eq_true rfl) rfl rfl (Nat.le_of_ble_eq_true rfl) dX11_init_1 (fun σ1 h => ?_)
  refine r_aload_n (pc := 4) (i := 0) C dX11_init_4 rfl rfl ?_
  refine r_iload_n (pc := 5) (i := 1) C dX11_init_5 rfl rfl ?_
  refine r_putIF (pc := 6) C rfl fd_X11_7 fc_X11_7 ft_X11_0 dX11_init_6 h (fun σ2 h => ?_)
  exact r_vret (pc := 9) C rfl dX11_init_9 h E
theorem t_X11_init {F : Nat} {σ : MM} {a0 : Nat} {x1 : Int32} {r : MM} (h : g_X11_init F σ a0 x1 = some r) : mT σ a0 = (9, 1) := by
  unfold g_X11_init at h
  exact (r_ck h).1
def g_X12_init (F : Nat) (σ : MM) (a0 : Nat) : Option (MM) := if (mT σ a0).1 ≠ 99 then (if (mT σ a0).1 ≠ 99 then (some σ) else none) else none
theorem w_X12_init {B F : Nat} {d : Nat} {σ : MM} {a0 : Nat} {σf : MM} (hd : 1 ≤ d) (h : g_X12_init F σ a0 = some σf) : xMA B yX12_init cX12_init 1 none d 0 0 [rv B a0] σ none σf := by
  refine xMA.of (by decide +kernel) (Nat.le_of_ble_eq_true rfl) (cat_rv cat_nil) (fun G C E => ?_)
  unfold g_X12_init at h
  obtain ⟨-, h⟩ := r_ck h
  refine r_aload_n (pc := 0) (i := 0) C dX12_init_0 rfl rfl ?_
  refine r_objI (pc := 1) C q648 q148 q149 (Nat.le_trans (Nat.le_of_ble_eq_true rfl) hd) (Nat.le_of_ble_eq_true rfl) dX12_init_1 h (fun h => ?_)
  exact r_vret (pc := 4) C rfl dX12_init_4 h E
theorem t_X12_init {F : Nat} {σ : MM} {a0 : Nat} {r : MM} (h : g_X12_init F σ a0 = some r) : (mT σ a0).1 ≠ 99 := by
  unfold g_X12_init at h
  exact (r_ck h).1
theorem yd_X12_init : xYd yX12_init 0 := ⟨by decide +kernel, by decide +kernel, by decide +kernel⟩
theorem cs_X13_1_X12_init : xCI RX13 1 yX12_init cX12_init 1 0 := ⟨by decide, rfl, yd_X12_init, lw_meth q647, q134, q646, Or.inr ⟨_, in_nest q672 rfl⟩⟩
theorem fc_X13_7 : xFc RX13 7 10 0 := ⟨⟨_, rfl, rfl⟩, _, rfl, q673⟩
theorem fc_X13_13 : xFc RX13 13 10 1 := ⟨⟨_, rfl, rfl⟩, _, rfl, q674⟩
def g_X13_init (F : Nat) (σ : MM) (a0 : Nat) (a1 : Nat) (x2 : Int32) : Option (MM) := if mT σ a0 = (10, 3) then ((g_X12_init F σ a0).bind fun σ1 => (pP σ1 a0 10 3 0 a1).bind fun σ2 => (pI σ2 a0 10 3 1 x2).bind fun σ3 => some σ3) else none
theorem w_X13_init {B F : Nat} {d : Nat} {σ : MM} {a0 : Nat} {a1 : Nat} {x2 : Int32} {σf : MM} (hd : 2 ≤ d) (h : g_X13_init F σ a0 a1 x2 = some σf) : xMA B yX13_init cX13_init 3 none d 0 0 [rv B a0, rv B a1, .int x2] σ none σf := by
  refine xMA.of (by decide +kernel) (Nat.le_of_ble_eq_true rfl) (cat_rv (cat_rv (cat_int cat_nil))) (fun G C E => ?_)
  unfold g_X13_init at h
  obtain ⟨-, h⟩ := r_ck h
  refine r_aload_n (pc := 0) (i := 0) C dX13_init_0 rfl rfl ?_
  refine r_callI (pc := 1) (As := []) (st := []) C cs_X13_1_X12_init h (fun _ e => w_X12_init (Nat.le_refl 1) e) (fun _ e => t_X12_init e) (Nat.le_trans (Nat.le_of_ble_eq_true rfl) hd) (Nat.le_of_ble_eq_true rfl) (Nat.le_of_ble_eq_true rfl) rfl rfl (Nat.le_of_ble_eq_true rfl) dX13_init_1 (fun σ1 h => ?_)
  refine r_aload_n (pc := 4) (i := 0) C dX13_init_4 rfl rfl ?_
  refine r_aload_n (pc := 5) (i := 1) C dX13_init_5 rfl rfl ?_
  refine r_putPF (pc := 6) C rfl fd_X13_7 fc_X13_7 ft_X13_0 (Or.inl ⟨_, rfl⟩) dX13_init_6 h (fun σ2 h => ?_)
  refine r_aload_n (pc := 9) (i := 0) C dX13_init_9 rfl rfl ?_
  refine r_iload_n (pc := 10) (i := 2) C dX13_init_10 rfl rfl ?_
  refine r_putIF (pc := 11) C rfl fd_X13_13 fc_X13_13 ft_X13_1 dX13_init_11 h (fun σ3 h => ?_)
  exact r_vret (pc := 14) C rfl dX13_init_14 h E
theorem t_X13_init {F : Nat} {σ : MM} {a0 : Nat} {a1 : Nat} {x2 : Int32} {r : MM} (h : g_X13_init F σ a0 a1 x2 = some r) : mT σ a0 = (10, 3) := by
  unfold g_X13_init at h
  exact (r_ck h).1
theorem cs_X14_1_X12_init : xCI RX14 1 yX12_init cX12_init 1 0 := ⟨by decide, rfl, yd_X12_init, lw_meth q647, q134, q646, Or.inr ⟨_, in_nest q645 rfl⟩⟩
theorem fc_X14_7 : xFc RX14 7 11 0 := ⟨⟨_, rfl, rfl⟩, _, rfl, q649⟩
def g_X14_init (F : Nat) (σ : MM) (a0 : Nat) (a1 : Nat) : Option (MM) := if mT σ a0 = (11, 1) then ((g_X12_init F σ a0).bind fun σ1 => (pP σ1 a0 11 1 0 a1).bind fun σ2 => some σ2) else none
theorem w_X14_init {B F : Nat} {d : Nat} {σ : MM} {a0 : Nat} {a1 : Nat} {σf : MM} (hd : 2 ≤ d) (h : g_X14_init F σ a0 a1 = some σf) : xMA B yX14_init cX14_init 2 none d 0 0 [rv B a0, rv B a1] σ none σf := by
  refine xMA.of (by decide +kernel) (Nat.le_of_ble_eq_true rfl) (cat_rv (cat_rv cat_nil)) (fun G C E => ?_)
  unfold g_X14_init at h
  obtain ⟨-, h⟩ := r_ck h
  refine r_aload_n (pc := 0) (i := 0) C dX14_init_0 rfl rfl ?_
  refine r_callI (pc := 1) (As := []) (st := []) C cs_X14_1_X12_init h (fun _ e => w_X12_init (Nat.le_refl 1) e) (fun _ e => t_X12_init e) (Nat.le_trans (Nat.le_of_ble_eq_true rfl) hd) (Nat.le_of_ble_eq_true rfl) (Nat.le_of_ble_eq_true rfl) rfl rfl (Nat.le_of_ble_eq_true rfl) dX14_init_1 (fun σ1 h => ?_)
  refine r_aload_n (pc := 4) (i := 0) C dX14_init_4 rfl rfl ?_
  refine r_aload_n (pc := 5) (i := 1) C dX14_init_5 rfl rfl ?_
  refine r_putPF (pc := 6) C rfl fd_X14_7 fc_X14_7 ft_X14_0 (Or.inl ⟨_, rfl⟩) dX14_init_6 h (fun σ2 h => ?_)
  exact r_vret (pc := 9) C rfl dX14_init_9 h E
theorem t_X14_init {F : Nat} {σ : MM} {a0 : Nat} {a1 : Nat} {r : MM} (h : g_X14_init F σ a0 a1 = some r) : mT σ a0 = (11, 1) := by
  unfold g_X14_init at h
  exact (r_ck h).1
theorem cs_X15_1_X12_init : xCI RX15 1 yX12_init cX12_init 1 0 := ⟨by decide, rfl, yd_X12_init, lw_meth q647, q134, q646, Or.inr ⟨_, in_nest q658 rfl⟩⟩
theorem fc_X15_7 : xFc RX15 7 12 0 := ⟨⟨_, rfl, rfl⟩, _, rfl, q659⟩
theorem fc_X15_13 : xFc RX15 13 12 2 := ⟨⟨_, rfl, rfl⟩, _, rfl, q661⟩
theorem fc_X15_17 : xFc RX15 17 12 1 := ⟨⟨_, rfl, rfl⟩, _, rfl, q660⟩
def g_X15_init (F : Nat) (σ : MM) (a0 : Nat) (a1 : Nat) (x2 : Int32) (a3 : Nat) : Option (MM) := if mT σ a0 = (12, 3) then ((g_X12_init F σ a0).bind fun σ1 => (pP σ1 a0 12 3 0 a1).bind fun σ2 => (pI σ2 a0 12 3 2 x2).bind fun σ3 => (pP σ3 a0 12 3 1 a3).bind fun σ4 => some σ4) else none
theorem w_X15_init {B F : Nat} {d : Nat} {σ : MM} {a0 : Nat} {a1 : Nat} {x2 : Int32} {a3 : Nat} {σf : MM} (hd : 2 ≤ d) (h : g_X15_init F σ a0 a1 x2 a3 = some σf) : xMA B yX15_init cX15_init 4 none d 0 0 [rv B a0, rv B a1, .int x2, rv B a3] σ none σf := by
  refine xMA.of (by decide +kernel) (Nat.le_of_ble_eq_true rfl) (cat_rv (cat_rv (cat_int (cat_rv cat_nil)))) (fun G C E => ?_)
  unfold g_X15_init at h
  obtain ⟨-, h⟩ := r_ck h
  refine r_aload_n (pc := 0) (i := 0) C dX15_init_0 rfl rfl ?_
  refine r_callI (pc := 1) (As := []) (st := []) C cs_X15_1_X12_init h (fun _ e => w_X12_init (Nat.le_refl 1) e) (fun _ e => t_X12_init e) (Nat.le_trans (Nat.le_of_ble_eq_true rfl) hd) (Nat.le_of_ble_eq_true rfl) (Nat.le_of_ble_eq_true rfl) rfl rfl (Nat.le_of_ble_eq_true rfl) dX15_init_1 (fun σ1 h => ?_)
  refine r_aload_n (pc := 4) (i := 0) C dX15_init_4 rfl rfl ?_
  refine r_aload_n (pc := 5) (i := 1) C dX15_init_5 rfl rfl ?_
  refine r_putPF (pc := 6) C rfl fd_X15_7 fc_X15_7 ft_X15_0 (Or.inl ⟨_, rfl⟩) dX15_init_6 h (fun σ2 h => ?_)
  refine r_aload_n (pc := 9) (i := 0) C dX15_init_9 rfl rfl ?_
  refine r_iload_n (pc := 10) (i := 2) C dX15_init_10 rfl rfl ?_
  refine r_putIF (pc := 11) C rfl fd_X15_13 fc_X15_13 ft_X15_2 dX15_init_11 h (fun σ3 h => ?_)
  refine r_aload_n (pc := 14) (i := 0) C dX15_init_14 rfl rfl ?_
  refine r_aload_n (pc := 15) (i := 3) C dX15_init_15 rfl rfl ?_
  refine r_putPF (pc := 16) C rfl fd_X15_17 fc_X15_17 ft_X15_1 (Or.inl ⟨_, rfl⟩) dX15_init_16 h (fun σ4 h => ?_)
  exact r_vret (pc := 19) C rfl dX15_init_19 h E
theorem t_X15_init {F : Nat} {σ : MM} {a0 : Nat} {a1 : Nat} {x2 : Int32} {a3 : Nat} {r : MM} (h : g_X15_init F σ a0 a1 x2 a3 = some r) : mT σ a0 = (12, 3) := by
  unfold g_X15_init at h
  exact (r_ck h).1
theorem fd_X7_3 : xFg RX7 3 6 7 6 := ⟨_, rfl, rfl, by decide, by decide, in_X7, Or.inl q434⟩
theorem ft_X7_6 : xFt 6 6 (.object "OneCoin") true := ⟨_, rfl, by decide +kernel, rfl, rfl⟩
theorem fc_X7_3 : xFc RX7 3 6 6 := ⟨⟨_, rfl, rfl⟩, _, rfl, q434⟩
theorem cs_X7_17_X5_init : xCI RX7 17 yX5_init cX5_init 1 0 := ⟨by decide, rfl, yd_X5_init, lw_meth q283, q121, q282, Or.inr ⟨_, in_nest q426 rfl⟩⟩
theorem fd_X7_18 : xFg RX7 18 6 7 1 := ⟨_, rfl, rfl, by decide, by decide, in_X7, Or.inl q428⟩
theorem ft_X7_1 : xFt 6 1 (.object "OneCoin$Text") true := ⟨_, rfl, by decide +kernel, rfl, rfl⟩
theorem fc_X7_18 : xFc RX7 18 6 1 := ⟨⟨_, rfl, rfl⟩, _, rfl, q428⟩
theorem fd_X7_22 : xFg RX7 22 6 7 0 := ⟨_, rfl, rfl, by decide, by decide, in_X7, Or.inl q427⟩
theorem ft_X7_0 : xFt 6 0 .int true := ⟨_, rfl, by decide +kernel, rfl, rfl⟩
theorem fc_X7_22 : xFc RX7 22 6 0 := ⟨⟨_, rfl, rfl⟩, _, rfl, q427⟩
def g_X7_init (F : Nat) (σ : MM) (a0 : Nat) (a1 : Nat) (x2 : Int32) : Option (MM) := if mT σ a0 = (6, 7) then ((pP σ a0 6 7 6 a1).bind fun σ1 => if (mT σ1 a0).1 ≠ 99 then (nw σ1 (4, 4) fun p3 σ4 => (g_X5_init F σ4 p3).bind fun σ5 => (pP σ5 a0 6 7 1 p3).bind fun σ6 => (pI σ6 a0 6 7 0 x2).bind fun σ7 => some σ7) else none) else none
theorem w_X7_init {B F : Nat} {d : Nat} {σ : MM} {a0 : Nat} {a1 : Nat} {x2 : Int32} {σf : MM} (hd : 2 ≤ d) (h : g_X7_init F σ a0 a1 x2 = some σf) : xMA B yX7_init cX7_init 3 none d 4 52 [rv B a0, rv B a1, .int x2] σ none σf := by
  refine xMA.of (by decide +kernel) (Nat.le_of_ble_eq_true rfl) (cat_rv (cat_rv (cat_int cat_nil))) (fun G C E => ?_)
  unfold g_X7_init at h
  obtain ⟨-, h⟩ := r_ck h
  refine r_aload_n (pc := 0) (i := 0) C dX7_init_0 rfl rfl ?_
  refine r_aload_n (pc := 1) (i := 1) C dX7_init_1 rfl rfl ?_
  refine r_putPF (pc := 2) C rfl fd_X7_3 fc_X7_3 ft_X7_6 (Or.inl ⟨_, rfl⟩) dX7_init_2 h (fun σ1 h => ?_)
  refine r_aload_n (pc := 5) (i := 0) C dX7_init_5 rfl rfl ?_
  refine r_objI (pc := 6) C q424 q148 q149 (Nat.le_trans (Nat.le_of_ble_eq_true rfl) hd) (Nat.le_of_ble_eq_true rfl) dX7_init_6 h (fun h => ?_)
  refine r_aload_n (pc := 9) (i := 0) C dX7_init_9 rfl rfl ?_
  refine r_newB (pc := 10) C xcl_X5 q425 q280 q121 dX7_init_10 (Nat.le_of_ble_eq_true rfl) (Nat.le_of_ble_eq_true rfl) rfl rfl h (fun p3 σ4 h => ?_)
  refine r_dup (pc := 13) C dX7_init_13 ?_
  refine r_callI (pc := 14) (As := []) (st := [rv B p3, rv B a0]) C cs_X7_17_X5_init h (fun _ e => w_X5_init (Nat.le_refl 1) e) (fun _ e => by rw [t_X5_init e]; decide) (Nat.le_trans (Nat.le_of_ble_eq_true rfl) hd) (Nat.le_of_ble_eq_true rfl) (Nat.le_of_ble_eq_true rfl) rfl rfl (Nat.le_of_ble_eq_true rfl) dX7_init_14 (fun σ5 h => ?_)
  refine r_putPF (pc := 17) C rfl fd_X7_18 fc_X7_18 ft_X7_1 (Or.inl ⟨_, rfl⟩) dX7_init_17 h (fun σ6 h => ?_)
  refine r_aload_n (pc := 20) (i := 0) C dX7_init_20 rfl rfl ?_
  refine r_iload_n (pc := 21) (i := 2) C dX7_init_21 rfl rfl ?_
  refine r_putIF (pc := 22) C rfl fd_X7_22 fc_X7_22 ft_X7_0 dX7_init_22 h (fun σ7 h => ?_)
  exact r_vret (pc := 25) C rfl dX7_init_25 h E
theorem t_X7_init {F : Nat} {σ : MM} {a0 : Nat} {a1 : Nat} {x2 : Int32} {r : MM} (h : g_X7_init F σ a0 a1 x2 = some r) : mT σ a0 = (6, 7) := by
  unfold g_X7_init at h
  exact (r_ck h).1
