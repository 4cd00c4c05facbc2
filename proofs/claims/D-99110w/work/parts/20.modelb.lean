set_option maxRecDepth 100000
theorem yd_X6_readsCompared : xYd yX6_readsCompared 0 := ⟨by decide +kernel, by decide +kernel, by decide +kernel⟩
theorem cs_X6_234_X6_readsCompared : xCV RX6 234 yX6_readsCompared cX6_readsCompared 2 (some .boolean) 5 62 0 := ⟨by decide, by decide, _, rfl, yd_X6_readsCompared, Or.inl ⟨rfl, lw_V q1553 q1555 qs62 q122 q1556⟩⟩
theorem yd_X6_lands : xYd yX6_lands 1 := ⟨by decide +kernel, by decide +kernel, by decide +kernel⟩
theorem cs_X6_237_X6_lands : xCV RX6 237 yX6_lands cX6_lands 3 none 5 62 1 := ⟨by decide, by decide, _, rfl, yd_X6_lands, Or.inl ⟨rfl, lw_V q1561 q1563 qs64 q122 q1564⟩⟩
theorem yd_X6_jumps : xYd yX6_jumps 1 := ⟨by decide +kernel, by decide +kernel, by decide +kernel⟩
theorem cs_X6_240_X6_jumps : xCV RX6 240 yX6_jumps cX6_jumps 2 none 5 62 1 := ⟨by decide, by decide, _, rfl, yd_X6_jumps, Or.inl ⟨rfl, lw_V q1565 q1567 qs65 q122 q1568⟩⟩
def l_X6_readsCondition_92 (K : MM → Option (Int32 × MM)) (F : Nat) (a0 : Nat) : Nat → MM → Option (Int32 × MM)
  | 0, _ => none
  | f + 1, σ => bq (g_X6_here F σ a0) fun v23 σ22 => if v23 = 41 then ((g_X6_lands F σ22 a0 1).bind fun σ24 => (gI σ24 a0 5 62 14).bind fun v25 => (pI σ24 a0 5 62 14 ((v25 - 1))).bind fun σ26 => (gI σ26 a0 5 62 12).bind fun v27 => (pI σ26 a0 5 62 12 ((v27 - 1))).bind fun σ28 => (gI σ28 a0 5 62 8).bind fun v29 => (pI σ28 a0 5 62 8 ((v29 + 1))).bind fun σ30 => (gI σ30 a0 5 62 14).bind fun v31 => if v31 = 0 then (some (1, σ30)) else ((g_X6_endsPiece F σ30 a0).bind fun σ32 => l_X6_readsCondition_92 K F a0 f σ32)) else (K σ22)
def l_X6_readsCondition_40 (F : Nat) (a0 : Nat) : Nat → MM → Option (Int32 × MM)
  | 0, _ => none
  | f + 1, σ => bq (g_X6_here F σ a0) fun v8 σ7 => jn (fun  (σ9 : MM) => bq (g_X6_here F σ9 a0) fun v12 σ11 => jn (fun (w14 : Int32) (σ13 : MM) => bq (g_X6_opens F σ13 a0 w14) fun v17 σ16 => if v17 = 0 then (some (0, σ16)) else (l_X6_readsCondition_40 F a0 f σ16)) (fun k15 => if v12 = 33 then (k15 10 σ11) else (k15 13 σ11))) (fun k10 => if v8 = 33 then (k10 σ7) else (bq (g_X6_here F σ7 a0) fun v19 σ18 => if v19 = 40 then (k10 σ18) else (bq (g_X6_readsCompared F σ18 a0) fun v21 σ20 => if v21 = 0 then (some (0, σ20)) else (l_X6_readsCondition_92 (fun (σ33 : MM) => bq (g_X6_here F σ33 a0) fun v35 σ34 => jn (fun (σ36 : MM) => bq (g_X6_here F σ36 a0) fun v39 σ38 => jn (fun (w41 : Int32) (σ40 : MM) => (g_X6_lands F σ40 a0 w41).bind fun σ43 => bq (g_X6_here F σ43 a0) fun v45 σ44 => if v45 = 38 then ((g_X6_jumps F σ44 a0 11).bind fun σ47 => l_X6_readsCondition_40 F a0 f σ47) else ((g_X6_jumps F σ44 a0 12).bind fun σ46 => l_X6_readsCondition_40 F a0 f σ46)) (fun k42 => if v39 = 124 then (k42 1 σ38) else (k42 0 σ38))) (fun k37 => if v35 = 38 then (k37 σ34) else (bq (g_X6_here F σ34 a0) fun v49 σ48 => if v49 = 124 then (k37 σ48) else ((gI σ48 a0 5 62 8).bind fun v50 => bq (g_X6_wrongAt F σ48 a0 1 v50) fun v52 σ51 => (rz v52).bind fun u => some (u, σ51))))) F a0 F σ20))))
def g_X6_readsCondition (F : Nat) (σ : MM) (a0 : Nat) : Option (Int32 × MM) := if mT σ a0 = (5, 62) then (bq (g_X6_here F σ a0) fun v2 σ1 => if v2 = 40 then ((pI σ1 a0 5 62 12 0).bind fun σ3 => (pI σ3 a0 5 62 14 0).bind fun σ4 => bq (g_X6_opens F σ4 a0 13) fun v6 σ5 => if v6 = 0 then (some (0, σ5)) else (l_X6_readsCondition_40 F a0 F σ5)) else ((gI σ1 a0 5 62 8).bind fun v53 => bq (g_X6_wrongAt F σ1 a0 1 v53) fun v55 σ54 => (rz v55).bind fun u => some (u, σ54))) else none
theorem wl_X6_readsCondition_92 {B : Nat} {G : XG} {d : Nat} {rf : Int32} {σf : MM} (hd : 6 ≤ d) (C : xC B G yX6_readsCondition cX6_readsCondition 1 (some .boolean) d 0 0) (E : xEnd B G (some (.int rf)) σf 0 0) {K : MM → Option (Int32 × MM)} {F : Nat} {a0 : Nat} (hK : ∀ (σ : MM), K σ = some (rf, σf) → xV B G 0 0 σ 152 [(0, rv B a0)] []) : ∀ (f : Nat) (σ : MM), l_X6_readsCondition_92 K F a0 f σ = some (rf, σf) → xV B G 0 0 σ 92 [(0, rv B a0)] [] := by
  intro f
  induction f with
  | zero =>
    intro σ h
    have h : none = some (rf, σf) := h
    cases h
  | succ f ih =>
    intro σ h
    rw [l_X6_readsCondition_92.eq_2] at h
    refine r_aload_n (pc := 92) (i := 0) C dX6_readsCondition_92 rfl rfl ?_
    refine r_callVI (pc := 93) (As := []) (st := []) C cs_X6_172_X6_here h (fun _ _ e => w_X6_here (Nat.le_refl 0) e) (fun _ _ e => t_X6_here e) (Nat.le_trans (Nat.le_of_ble_eq_true rfl) hd) (Nat.le_of_ble_eq_true rfl) dX6_readsCondition_93 (fun v23 σ22 h => ?_)
    refine r_bipush (pc := 96) (v := 41) C dX6_readsCondition_96 (by decide) ?_
    refine r_icmpne (pc := 98) (tgt := 152) C dX6_readsCondition_98 (by decide) h (fun h => ?_) (fun h => ?_)
    · refine r_pick (lv' := [(0, rv B a0)]) [0] rfl ?_
      exact hK _ h
    · refine r_aload_n (pc := 101) (i := 0) C dX6_readsCondition_101 rfl rfl ?_
      refine r_iconst (pc := 102) (v := 1) C dX6_readsCondition_102 (by decide) ?_
      refine r_callVV (pc := 103) (As := [.int 1]) (st := []) C cs_X6_237_X6_lands h (fun _ e => w_X6_lands (Nat.le_refl 1) e) (fun _ e => t_X6_lands e) (Nat.le_trans (Nat.le_of_ble_eq_true rfl) hd) (Nat.le_of_ble_eq_true rfl) dX6_readsCondition_103 (fun σ24 h => ?_)
      refine r_aload_n (pc := 106) (i := 0) C dX6_readsCondition_106 rfl rfl ?_
      refine r_aload_n (pc := 107) (i := 0) C dX6_readsCondition_107 rfl rfl ?_
      refine r_getI (pc := 108) C fd_X6_196 rfl dX6_readsCondition_108 h (fun v25 h => ?_)
      refine r_iconst (pc := 111) (v := 1) C dX6_readsCondition_111 (by decide) ?_
      refine r_isub (pc := 112) C dX6_readsCondition_112 ?_
      refine r_putI (pc := 113) C fd_X6_196 ft_X6_14 dX6_readsCondition_113 h (fun σ26 h => ?_)
      refine r_aload_n (pc := 116) (i := 0) C dX6_readsCondition_116 rfl rfl ?_
      refine r_aload_n (pc := 117) (i := 0) C dX6_readsCondition_117 rfl rfl ?_
      refine r_getI (pc := 118) C fd_X6_193 rfl dX6_readsCondition_118 h (fun v27 h => ?_)
      refine r_iconst (pc := 121) (v := 1) C dX6_readsCondition_121 (by decide) ?_
      refine r_isub (pc := 122) C dX6_readsCondition_122 ?_
      refine r_putI (pc := 123) C fd_X6_193 ft_X6_12 dX6_readsCondition_123 h (fun σ28 h => ?_)
      refine r_aload_n (pc := 126) (i := 0) C dX6_readsCondition_126 rfl rfl ?_
      refine r_aload_n (pc := 127) (i := 0) C dX6_readsCondition_127 rfl rfl ?_
      refine r_getI (pc := 128) C fd_X6_166 rfl dX6_readsCondition_128 h (fun v29 h => ?_)
      refine r_iconst (pc := 131) (v := 1) C dX6_readsCondition_131 (by decide) ?_
      refine r_iadd (pc := 132) C dX6_readsCondition_132 ?_
      refine r_putI (pc := 133) C fd_X6_166 ft_X6_8 dX6_readsCondition_133 h (fun σ30 h => ?_)
      refine r_aload_n (pc := 136) (i := 0) C dX6_readsCondition_136 rfl rfl ?_
      refine r_getI (pc := 137) C fd_X6_196 rfl dX6_readsCondition_137 h (fun v31 h => ?_)
      refine r_ifne (pc := 140) (tgt := 145) C dX6_readsCondition_140 (by decide) h (fun h => ?_) (fun h => ?_)
      · refine r_aload_n (pc := 145) (i := 0) C dX6_readsCondition_145 rfl rfl ?_
        refine r_callVV (pc := 146) (As := []) (st := []) C cs_X6_231_X6_endsPiece h (fun _ e => w_X6_endsPiece (Nat.le_refl 1) e) (fun _ e => t_X6_endsPiece e) (Nat.le_trans (Nat.le_of_ble_eq_true rfl) hd) (Nat.le_of_ble_eq_true rfl) dX6_readsCondition_146 (fun σ32 h => ?_)
        refine r_goto (pc := 149) (tgt := 92) C dX6_readsCondition_149 (by decide) ?_
        refine r_pick (lv' := [(0, rv B a0)]) [0] rfl ?_
        exact ih _ h
      · refine r_iconst (pc := 143) (v := 1) C dX6_readsCondition_143 (by decide) ?_
        exact r_zretL (pc := 144) C rfl dX6_readsCondition_144 (Or.inr rfl) h E
theorem wl_X6_readsCondition_40 {B : Nat} {G : XG} {d : Nat} {rf : Int32} {σf : MM} (hd : 6 ≤ d) (C : xC B G yX6_readsCondition cX6_readsCondition 1 (some .boolean) d 0 0) (E : xEnd B G (some (.int rf)) σf 0 0) {F : Nat} {a0 : Nat} : ∀ (f : Nat) (σ : MM), l_X6_readsCondition_40 F a0 f σ = some (rf, σf) → xV B G 0 0 σ 40 [(0, rv B a0)] [] := by
  intro f
  induction f with
  | zero =>
    intro σ h
    have h : none = some (rf, σf) := h
    cases h
  | succ f ih =>
    intro σ h
    rw [l_X6_readsCondition_40.eq_2] at h
    refine r_aload_n (pc := 40) (i := 0) C dX6_readsCondition_40 rfl rfl ?_
    refine r_callVI (pc := 41) (As := []) (st := []) C cs_X6_172_X6_here h (fun _ _ e => w_X6_here (Nat.le_refl 0) e) (fun _ _ e => t_X6_here e) (Nat.le_trans (Nat.le_of_ble_eq_true rfl) hd) (Nat.le_of_ble_eq_true rfl) dX6_readsCondition_41 (fun v8 σ7 h => ?_)
    refine r_bipush (pc := 44) (v := 33) C dX6_readsCondition_44 (by decide) ?_
    refine r_jn (fun k9 => ∀  (σ9 : MM), k9 σ9 = some (rf, σf) → xV B G 0 0 σ9 58 [(0, rv B a0)] []) h (fun  σ9 h => ?_) (fun k10 hk10 h => ?_)
    · refine r_aload_n (pc := 58) (i := 0) C dX6_readsCondition_58 rfl rfl ?_
      refine r_aload_n (pc := 59) (i := 0) C dX6_readsCondition_59 rfl rfl ?_
      refine r_callVI (pc := 60) (As := []) (st := [rv B a0]) C cs_X6_172_X6_here h (fun _ _ e => w_X6_here (Nat.le_refl 0) e) (fun _ _ e => t_X6_here e) (Nat.le_trans (Nat.le_of_ble_eq_true rfl) hd) (Nat.le_of_ble_eq_true rfl) dX6_readsCondition_60 (fun v12 σ11 h => ?_)
      refine r_bipush (pc := 63) (v := 33) C dX6_readsCondition_63 (by decide) ?_
      refine r_jn (fun k9 => ∀ (w14 : Int32) (σ13 : MM), k9 w14 σ13 = some (rf, σf) → xV B G 0 0 σ13 75 [(0, rv B a0)] [.int w14, rv B a0]) h (fun w14 σ13 h => ?_) (fun k15 hk15 h => ?_)
      · refine r_callVI (pc := 75) (As := [.int w14]) (st := []) C cs_X6_206_X6_opens h (fun _ _ e => w_X6_opens (Nat.le_refl 1) e) (fun _ _ e => t_X6_opens e) (Nat.le_trans (Nat.le_of_ble_eq_true rfl) hd) (Nat.le_of_ble_eq_true rfl) dX6_readsCondition_75 (fun v17 σ16 h => ?_)
        refine r_ifne (pc := 78) (tgt := 40) C dX6_readsCondition_78 (by decide) h (fun h => ?_) (fun h => ?_)
        · refine r_pick (lv' := [(0, rv B a0)]) [0] rfl ?_
          exact ih _ h
        · refine r_iconst (pc := 81) (v := 0) C dX6_readsCondition_81 (by decide) ?_
          exact r_zretL (pc := 82) C rfl dX6_readsCondition_82 (Or.inl rfl) h E
      · refine r_icmpne (pc := 65) (tgt := 73) C dX6_readsCondition_65 (by decide) h (fun h => ?_) (fun h => ?_)
        · refine r_bipush (pc := 73) (v := 13) C dX6_readsCondition_73 (by decide) ?_
          refine r_pick (lv' := [(0, rv B a0)]) [0] rfl ?_
          exact hk15 _ _ h
        · refine r_bipush (pc := 68) (v := 10) C dX6_readsCondition_68 (by decide) ?_
          refine r_goto (pc := 70) (tgt := 75) C dX6_readsCondition_70 (by decide) ?_
          refine r_pick (lv' := [(0, rv B a0)]) [0] rfl ?_
          exact hk15 _ _ h
    · refine r_icmpeq (pc := 46) (tgt := 58) C dX6_readsCondition_46 (by decide) h (fun h => ?_) (fun h => ?_)
      · refine r_pick (lv' := [(0, rv B a0)]) [0] rfl ?_
        exact hk10 _ h
      · refine r_aload_n (pc := 49) (i := 0) C dX6_readsCondition_49 rfl rfl ?_
        refine r_callVI (pc := 50) (As := []) (st := []) C cs_X6_172_X6_here h (fun _ _ e => w_X6_here (Nat.le_refl 0) e) (fun _ _ e => t_X6_here e) (Nat.le_trans (Nat.le_of_ble_eq_true rfl) hd) (Nat.le_of_ble_eq_true rfl) dX6_readsCondition_50 (fun v19 σ18 h => ?_)
        refine r_bipush (pc := 53) (v := 40) C dX6_readsCondition_53 (by decide) ?_
        refine r_icmpne (pc := 55) (tgt := 83) C dX6_readsCondition_55 (by decide) h (fun h => ?_) (fun h => ?_)
        · refine r_aload_n (pc := 83) (i := 0) C dX6_readsCondition_83 rfl rfl ?_
          refine r_callVI (pc := 84) (As := []) (st := []) C cs_X6_234_X6_readsCompared h (fun _ _ e => w_X6_readsCompared (Nat.le_refl 5) e) (fun _ _ e => t_X6_readsCompared e) (Nat.le_trans (Nat.le_of_ble_eq_true rfl) hd) (Nat.le_of_ble_eq_true rfl) dX6_readsCondition_84 (fun v21 σ20 h => ?_)
          refine r_ifne (pc := 87) (tgt := 92) C dX6_readsCondition_87 (by decide) h (fun h => ?_) (fun h => ?_)
          · refine r_pick (lv' := [(0, rv B a0)]) [0] rfl ?_
            refine wl_X6_readsCondition_92 hd C E (fun  σ33 h => ?_) _ _ h
            refine r_aload_n (pc := 152) (i := 0) C dX6_readsCondition_152 rfl rfl ?_
            refine r_callVI (pc := 153) (As := []) (st := []) C cs_X6_172_X6_here h (fun _ _ e => w_X6_here (Nat.le_refl 0) e) (fun _ _ e => t_X6_here e) (Nat.le_trans (Nat.le_of_ble_eq_true rfl) hd) (Nat.le_of_ble_eq_true rfl) dX6_readsCondition_153 (fun v35 σ34 h => ?_)
            refine r_bipush (pc := 156) (v := 38) C dX6_readsCondition_156 (by decide) ?_
            refine r_jn (fun k9 => ∀  (σ36 : MM), k9 σ36 = some (rf, σf) → xV B G 0 0 σ36 180 [(0, rv B a0)] []) h (fun  σ36 h => ?_) (fun k37 hk37 h => ?_)
            · refine r_aload_n (pc := 180) (i := 0) C dX6_readsCondition_180 rfl rfl ?_
              refine r_aload_n (pc := 181) (i := 0) C dX6_readsCondition_181 rfl rfl ?_
              refine r_callVI (pc := 182) (As := []) (st := [rv B a0]) C cs_X6_172_X6_here h (fun _ _ e => w_X6_here (Nat.le_refl 0) e) (fun _ _ e => t_X6_here e) (Nat.le_trans (Nat.le_of_ble_eq_true rfl) hd) (Nat.le_of_ble_eq_true rfl) dX6_readsCondition_182 (fun v39 σ38 h => ?_)
              refine r_bipush (pc := 185) (v := 124) C dX6_readsCondition_185 (by decide) ?_
              refine r_jn (fun k9 => ∀ (w41 : Int32) (σ40 : MM), k9 w41 σ40 = some (rf, σf) → xV B G 0 0 σ40 195 [(0, rv B a0)] [.int w41, rv B a0]) h (fun w41 σ40 h => ?_) (fun k42 hk42 h => ?_)
              · refine r_callVV (pc := 195) (As := [.int w41]) (st := []) C cs_X6_237_X6_lands h (fun _ e => w_X6_lands (Nat.le_refl 1) e) (fun _ e => t_X6_lands e) (Nat.le_trans (Nat.le_of_ble_eq_true rfl) hd) (Nat.le_of_ble_eq_true rfl) dX6_readsCondition_195 (fun σ43 h => ?_)
                refine r_aload_n (pc := 198) (i := 0) C dX6_readsCondition_198 rfl rfl ?_
                refine r_aload_n (pc := 199) (i := 0) C dX6_readsCondition_199 rfl rfl ?_
                refine r_callVI (pc := 200) (As := []) (st := [rv B a0]) C cs_X6_172_X6_here h (fun _ _ e => w_X6_here (Nat.le_refl 0) e) (fun _ _ e => t_X6_here e) (Nat.le_trans (Nat.le_of_ble_eq_true rfl) hd) (Nat.le_of_ble_eq_true rfl) dX6_readsCondition_200 (fun v45 σ44 h => ?_)
                refine r_bipush (pc := 203) (v := 38) C dX6_readsCondition_203 (by decide) ?_
                refine r_icmpne (pc := 205) (tgt := 213) C dX6_readsCondition_205 (by decide) h (fun h => ?_) (fun h => ?_)
                · refine r_bipush (pc := 213) (v := 12) C dX6_readsCondition_213 (by decide) ?_
                  refine r_callVV (pc := 215) (As := [.int 12]) (st := []) C cs_X6_240_X6_jumps h (fun _ e => w_X6_jumps (Nat.le_refl 1) e) (fun _ e => t_X6_jumps e) (Nat.le_trans (Nat.le_of_ble_eq_true rfl) hd) (Nat.le_of_ble_eq_true rfl) dX6_readsCondition_215 (fun σ46 h => ?_)
                  refine r_goto (pc := 218) (tgt := 40) C dX6_readsCondition_218 (by decide) ?_
                  refine r_pick (lv' := [(0, rv B a0)]) [0] rfl ?_
                  exact ih _ h
                · refine r_bipush (pc := 208) (v := 11) C dX6_readsCondition_208 (by decide) ?_
                  refine r_goto (pc := 210) (tgt := 215) C dX6_readsCondition_210 (by decide) ?_
                  refine r_callVV (pc := 215) (As := [.int 11]) (st := []) C cs_X6_240_X6_jumps h (fun _ e => w_X6_jumps (Nat.le_refl 1) e) (fun _ e => t_X6_jumps e) (Nat.le_trans (Nat.le_of_ble_eq_true rfl) hd) (Nat.le_of_ble_eq_true rfl) dX6_readsCondition_215 (fun σ47 h => ?_)
                  refine r_goto (pc := 218) (tgt := 40) C dX6_readsCondition_218 (by decide) ?_
                  refine r_pick (lv' := [(0, rv B a0)]) [0] rfl ?_
                  exact ih _ h
              · refine r_icmpne (pc := 187) (tgt := 194) C dX6_readsCondition_187 (by decide) h (fun h => ?_) (fun h => ?_)
                · refine r_iconst (pc := 194) (v := 0) C dX6_readsCondition_194 (by decide) ?_
                  refine r_pick (lv' := [(0, rv B a0)]) [0] rfl ?_
                  exact hk42 _ _ h
                · refine r_iconst (pc := 190) (v := 1) C dX6_readsCondition_190 (by decide) ?_
                  refine r_goto (pc := 191) (tgt := 195) C dX6_readsCondition_191 (by decide) ?_
                  refine r_pick (lv' := [(0, rv B a0)]) [0] rfl ?_
                  exact hk42 _ _ h
            · refine r_icmpeq (pc := 158) (tgt := 180) C dX6_readsCondition_158 (by decide) h (fun h => ?_) (fun h => ?_)
              · refine r_pick (lv' := [(0, rv B a0)]) [0] rfl ?_
                exact hk37 _ h
              · refine r_aload_n (pc := 161) (i := 0) C dX6_readsCondition_161 rfl rfl ?_
                refine r_callVI (pc := 162) (As := []) (st := []) C cs_X6_172_X6_here h (fun _ _ e => w_X6_here (Nat.le_refl 0) e) (fun _ _ e => t_X6_here e) (Nat.le_trans (Nat.le_of_ble_eq_true rfl) hd) (Nat.le_of_ble_eq_true rfl) dX6_readsCondition_162 (fun v49 σ48 h => ?_)
                refine r_bipush (pc := 165) (v := 124) C dX6_readsCondition_165 (by decide) ?_
                refine r_icmpeq (pc := 167) (tgt := 180) C dX6_readsCondition_167 (by decide) h (fun h => ?_) (fun h => ?_)
                · refine r_pick (lv' := [(0, rv B a0)]) [0] rfl ?_
                  exact hk37 _ h
                · refine r_aload_n (pc := 170) (i := 0) C dX6_readsCondition_170 rfl rfl ?_
                  refine r_iconst (pc := 171) (v := 1) C dX6_readsCondition_171 (by decide) ?_
                  refine r_aload_n (pc := 172) (i := 0) C dX6_readsCondition_172 rfl rfl ?_
                  refine r_getI (pc := 173) C fd_X6_166 rfl dX6_readsCondition_173 h (fun v50 h => ?_)
                  refine r_callVI (pc := 176) (As := [.int 1, .int v50]) (st := []) C cs_X6_179_X6_wrongAt h (fun _ _ e => w_X6_wrongAt (Nat.le_refl 0) e) (fun _ _ e => t_X6_wrongAt e) (Nat.le_trans (Nat.le_of_ble_eq_true rfl) hd) (Nat.le_of_ble_eq_true rfl) dX6_readsCondition_176 (fun v52 σ51 h => ?_)
                  exact r_zret (pc := 179) C rfl dX6_readsCondition_179 h E
          · refine r_iconst (pc := 90) (v := 0) C dX6_readsCondition_90 (by decide) ?_
            exact r_zretL (pc := 91) C rfl dX6_readsCondition_91 (Or.inl rfl) h E
        · refine r_pick (lv' := [(0, rv B a0)]) [0] rfl ?_
          exact hk10 _ h
theorem w_X6_readsCondition {B F : Nat} {d : Nat} {σ : MM} {a0 : Nat} {rf : Int32} {σf : MM} (hd : 6 ≤ d) (h : g_X6_readsCondition F σ a0 = some (rf, σf)) : xMA B yX6_readsCondition cX6_readsCondition 1 (some .boolean) d 0 0 [rv B a0] σ (some (.int rf)) σf := by
  refine xMA.of (by decide +kernel) (Nat.le_of_ble_eq_true rfl) (cat_rv cat_nil) (fun G C E => ?_)
  unfold g_X6_readsCondition at h
  obtain ⟨-, h⟩ := r_ck h
  refine r_aload_n (pc := 0) (i := 0) C dX6_readsCondition_0 rfl rfl ?_
  refine r_callVI (pc := 1) (As := []) (st := []) C cs_X6_172_X6_here h (fun _ _ e => w_X6_here (Nat.le_refl 0) e) (fun _ _ e => t_X6_here e) (Nat.le_trans (Nat.le_of_ble_eq_true rfl) hd) (Nat.le_of_ble_eq_true rfl) dX6_readsCondition_1 (fun v2 σ1 h => ?_)
  refine r_bipush (pc := 4) (v := 40) C dX6_readsCondition_4 (by decide) ?_
  refine r_icmpeq (pc := 6) (tgt := 19) C dX6_readsCondition_6 (by decide) h (fun h => ?_) (fun h => ?_)
  · refine r_aload_n (pc := 19) (i := 0) C dX6_readsCondition_19 rfl rfl ?_
    refine r_iconst (pc := 20) (v := 0) C dX6_readsCondition_20 (by decide) ?_
    refine r_putI (pc := 21) C fd_X6_193 ft_X6_12 dX6_readsCondition_21 h (fun σ3 h => ?_)
    refine r_aload_n (pc := 24) (i := 0) C dX6_readsCondition_24 rfl rfl ?_
    refine r_iconst (pc := 25) (v := 0) C dX6_readsCondition_25 (by decide) ?_
    refine r_putI (pc := 26) C fd_X6_196 ft_X6_14 dX6_readsCondition_26 h (fun σ4 h => ?_)
    refine r_aload_n (pc := 29) (i := 0) C dX6_readsCondition_29 rfl rfl ?_
    refine r_bipush (pc := 30) (v := 13) C dX6_readsCondition_30 (by decide) ?_
    refine r_callVI (pc := 32) (As := [.int 13]) (st := []) C cs_X6_206_X6_opens h (fun _ _ e => w_X6_opens (Nat.le_refl 1) e) (fun _ _ e => t_X6_opens e) (Nat.le_trans (Nat.le_of_ble_eq_true rfl) hd) (Nat.le_of_ble_eq_true rfl) dX6_readsCondition_32 (fun v6 σ5 h => ?_)
    refine r_ifne (pc := 35) (tgt := 40) C dX6_readsCondition_35 (by decide) h (fun h => ?_) (fun h => ?_)
    · refine r_pick (lv' := [(0, rv B a0)]) [0] rfl ?_
      exact wl_X6_readsCondition_40 hd C E _ _ h
    · refine r_iconst (pc := 38) (v := 0) C dX6_readsCondition_38 (by decide) ?_
      exact r_zretL (pc := 39) C rfl dX6_readsCondition_39 (Or.inl rfl) h E
  · refine r_aload_n (pc := 9) (i := 0) C dX6_readsCondition_9 rfl rfl ?_
    refine r_iconst (pc := 10) (v := 1) C dX6_readsCondition_10 (by decide) ?_
    refine r_aload_n (pc := 11) (i := 0) C dX6_readsCondition_11 rfl rfl ?_
    refine r_getI (pc := 12) C fd_X6_166 rfl dX6_readsCondition_12 h (fun v53 h => ?_)
    refine r_callVI (pc := 15) (As := [.int 1, .int v53]) (st := []) C cs_X6_179_X6_wrongAt h (fun _ _ e => w_X6_wrongAt (Nat.le_refl 0) e) (fun _ _ e => t_X6_wrongAt e) (Nat.le_trans (Nat.le_of_ble_eq_true rfl) hd) (Nat.le_of_ble_eq_true rfl) dX6_readsCondition_15 (fun v55 σ54 h => ?_)
    exact r_zret (pc := 18) C rfl dX6_readsCondition_18 h E
theorem t_X6_readsCondition {F : Nat} {σ : MM} {a0 : Nat} {r : Int32 × MM} (h : g_X6_readsCondition F σ a0 = some r) : mT σ a0 = (5, 62) := by
  unfold g_X6_readsCondition at h
  exact (r_ck h).1
theorem fd_X6_243 : xFg RX6 243 5 62 15 := ⟨_, rfl, rfl, by decide, by decide, in_X6, Or.inl q1280⟩
theorem ft_X6_15 : xFt 5 15 .int false := ⟨_, rfl, by decide +kernel, rfl, rfl⟩
theorem fd_X6_35 : xFg RX6 35 5 62 19 := ⟨_, rfl, rfl, by decide, by decide, in_X6, Or.inl q1284⟩
theorem ft_X6_19 : xFt 5 19 (.array .int) true := ⟨_, rfl, by decide +kernel, rfl, rfl⟩
theorem fd_X6_38 : xFg RX6 38 5 62 20 := ⟨_, rfl, rfl, by decide, by decide, in_X6, Or.inl q1285⟩
theorem ft_X6_20 : xFt 5 20 (.array .int) true := ⟨_, rfl, by decide +kernel, rfl, rfl⟩
theorem fd_X6_41 : xFg RX6 41 5 62 21 := ⟨_, rfl, rfl, by decide, by decide, in_X6, Or.inl q1286⟩
theorem ft_X6_21 : xFt 5 21 (.array .int) true := ⟨_, rfl, by decide +kernel, rfl, rfl⟩
theorem yd_X6_readsCondition : xYd yX6_readsCondition 0 := ⟨by decide +kernel, by decide +kernel, by decide +kernel⟩
theorem cs_X6_246_X6_readsCondition : xCV RX6 246 yX6_readsCondition cX6_readsCondition 1 (some .boolean) 5 62 0 := ⟨by decide, by decide, _, rfl, yd_X6_readsCondition, Or.inl ⟨rfl, lw_V q1549 q1551 qs61 q122 q1552⟩⟩
theorem fd_X6_44 : xFg RX6 44 5 62 22 := ⟨_, rfl, rfl, by decide, by decide, in_X6, Or.inl q1287⟩
theorem ft_X6_22 : xFt 5 22 (.array .int) true := ⟨_, rfl, by decide +kernel, rfl, rfl⟩
def g_X6_readsRule (F : Nat) (σ : MM) (a0 : Nat) : Option (Int32 × MM) := if mT σ a0 = (5, 62) then (bq (g_X6_here F σ a0) fun v2 σ1 => jn (fun (σ3 : MM) => (gI σ3 a0 5 62 15).bind fun v5 => if v5 = 16 then ((gI σ3 a0 5 62 8).bind fun v33 => bq (g_X6_wrongAt F σ3 a0 4 v33) fun v35 σ34 => (rz v35).bind fun u => some (u, σ34)) else ((gP σ3 a0 5 62 19).bind fun p6 => (gI σ3 a0 5 62 15).bind fun v7 => (sI σ3 p6 v7 v2).bind fun σ8 => (gI σ8 a0 5 62 8).bind fun v9 => (pI σ8 a0 5 62 8 ((v9 + 1))).bind fun σ10 => (gP σ10 a0 5 62 20).bind fun p11 => (gI σ10 a0 5 62 15).bind fun v12 => (gI σ10 a0 5 62 13).bind fun v13 => (sI σ10 p11 v12 v13).bind fun σ14 => (pI σ14 a0 5 62 12 0).bind fun σ15 => (pI σ15 a0 5 62 14 0).bind fun σ16 => jn (fun (σ17 : MM) => (gP σ17 a0 5 62 21).bind fun p19 => (gI σ17 a0 5 62 15).bind fun v20 => (gI σ17 a0 5 62 13).bind fun v21 => (sI σ17 p19 v20 v21).bind fun σ22 => bq (g_X6_readsCondition F σ22 a0) fun v24 σ23 => if v24 = 0 then (some (0, σ23)) else ((gP σ23 a0 5 62 22).bind fun p25 => (gI σ23 a0 5 62 15).bind fun v26 => (gI σ23 a0 5 62 13).bind fun v27 => (sI σ23 p25 v26 v27).bind fun σ28 => (gI σ28 a0 5 62 15).bind fun v29 => (pI σ28 a0 5 62 15 ((v29 + 1))).bind fun σ30 => some (1, σ30))) (fun k18 => if v2 = 115 then (k18 σ16) else (bq (g_X6_readsSum F σ16 a0) fun v32 σ31 => if v32 = 0 then (some (0, σ31)) else (k18 σ31))))) (fun k4 => if v2 = 101 then (k4 σ1) else (if v2 = 105 then (k4 σ1) else (if v2 = 114 then (k4 σ1) else (if v2 = 115 then (k4 σ1) else ((gI σ1 a0 5 62 8).bind fun v36 => bq (g_X6_wrongAt F σ1 a0 1 v36) fun v38 σ37 => (rz v38).bind fun u => some (u, σ37))))))) else none
theorem w_X6_readsRule {B F : Nat} {d : Nat} {σ : MM} {a0 : Nat} {rf : Int32} {σf : MM} (hd : 7 ≤ d) (h : g_X6_readsRule F σ a0 = some (rf, σf)) : xMA B yX6_readsRule cX6_readsRule 2 (some .boolean) d 0 0 [rv B a0] σ (some (.int rf)) σf := by
  refine xMA.of (by decide +kernel) (Nat.le_of_ble_eq_true rfl) (cat_rv cat_nil) (fun G C E => ?_)
  unfold g_X6_readsRule at h
  obtain ⟨-, h⟩ := r_ck h
  refine r_aload_n (pc := 0) (i := 0) C dX6_readsRule_0 rfl rfl ?_
  refine r_callVI (pc := 1) (As := []) (st := []) C cs_X6_172_X6_here h (fun _ _ e => w_X6_here (Nat.le_refl 0) e) (fun _ _ e => t_X6_here e) (Nat.le_trans (Nat.le_of_ble_eq_true rfl) hd) (Nat.le_of_ble_eq_true rfl) dX6_readsRule_1 (fun v2 σ1 h => ?_)
  refine r_istore_n (pc := 4) (i := 1) C dX6_readsRule_4 rfl (by decide) ?_
  refine r_iload_n (pc := 5) (i := 1) C dX6_readsRule_5 rfl rfl ?_
  refine r_bipush (pc := 6) (v := 101) C dX6_readsRule_6 (by decide) ?_
  refine r_jn (fun k9 => ∀  (σ3 : MM), k9 σ3 = some (rf, σf) → xV B G 0 0 σ3 39 [(0, rv B a0), (1, .int v2)] []) h (fun  σ3 h => ?_) (fun k4 hk4 h => ?_)
  · refine r_aload_n (pc := 39) (i := 0) C dX6_readsRule_39 rfl rfl ?_
    refine r_getI (pc := 40) C fd_X6_243 rfl dX6_readsRule_40 h (fun v5 h => ?_)
    refine r_bipush (pc := 43) (v := 16) C dX6_readsRule_43 (by decide) ?_
    refine r_icmpne (pc := 45) (tgt := 58) C dX6_readsRule_45 (by decide) h (fun h => ?_) (fun h => ?_)
    · refine r_aload_n (pc := 58) (i := 0) C dX6_readsRule_58 rfl rfl ?_
      refine r_getP (pc := 59) C fd_X6_35 rfl dX6_readsRule_59 h (fun p6 h => ?_)
      refine r_aload_n (pc := 62) (i := 0) C dX6_readsRule_62 rfl rfl ?_
      refine r_getI (pc := 63) C fd_X6_243 rfl dX6_readsRule_63 h (fun v7 h => ?_)
      refine r_iload_n (pc := 66) (i := 1) C dX6_readsRule_66 rfl rfl ?_
      refine r_iast (pc := 67) C dX6_readsRule_67 h (fun σ8 h => ?_)
      refine r_aload_n (pc := 68) (i := 0) C dX6_readsRule_68 rfl rfl ?_
      refine r_aload_n (pc := 69) (i := 0) C dX6_readsRule_69 rfl rfl ?_
      refine r_getI (pc := 70) C fd_X6_166 rfl dX6_readsRule_70 h (fun v9 h => ?_)
      refine r_iconst (pc := 73) (v := 1) C dX6_readsRule_73 (by decide) ?_
      refine r_iadd (pc := 74) C dX6_readsRule_74 ?_
      refine r_putI (pc := 75) C fd_X6_166 ft_X6_8 dX6_readsRule_75 h (fun σ10 h => ?_)
      refine r_aload_n (pc := 78) (i := 0) C dX6_readsRule_78 rfl rfl ?_
      refine r_getP (pc := 79) C fd_X6_38 rfl dX6_readsRule_79 h (fun p11 h => ?_)
      refine r_aload_n (pc := 82) (i := 0) C dX6_readsRule_82 rfl rfl ?_
      refine r_getI (pc := 83) C fd_X6_243 rfl dX6_readsRule_83 h (fun v12 h => ?_)
      refine r_aload_n (pc := 86) (i := 0) C dX6_readsRule_86 rfl rfl ?_
      refine r_getI (pc := 87) C fd_X6_189 rfl dX6_readsRule_87 h (fun v13 h => ?_)
      refine r_iast (pc := 90) C dX6_readsRule_90 h (fun σ14 h => ?_)
      refine r_aload_n (pc := 91) (i := 0) C dX6_readsRule_91 rfl rfl ?_
      refine r_iconst (pc := 92) (v := 0) C dX6_readsRule_92 (by decide) ?_
      refine r_putI (pc := 93) C fd_X6_193 ft_X6_12 dX6_readsRule_93 h (fun σ15 h => ?_)
      refine r_aload_n (pc := 96) (i := 0) C dX6_readsRule_96 rfl rfl ?_
      refine r_iconst (pc := 97) (v := 0) C dX6_readsRule_97 (by decide) ?_
      refine r_putI (pc := 98) C fd_X6_196 ft_X6_14 dX6_readsRule_98 h (fun σ16 h => ?_)
      refine r_iload_n (pc := 101) (i := 1) C dX6_readsRule_101 rfl rfl ?_
      refine r_bipush (pc := 102) (v := 115) C dX6_readsRule_102 (by decide) ?_
      refine r_jn (fun k9 => ∀  (σ17 : MM), k9 σ17 = some (rf, σf) → xV B G 0 0 σ17 116 [(0, rv B a0)] []) h (fun  σ17 h => ?_) (fun k18 hk18 h => ?_)
      · refine r_aload_n (pc := 116) (i := 0) C dX6_readsRule_116 rfl rfl ?_
        refine r_getP (pc := 117) C fd_X6_41 rfl dX6_readsRule_117 h (fun p19 h => ?_)
        refine r_aload_n (pc := 120) (i := 0) C dX6_readsRule_120 rfl rfl ?_
        refine r_getI (pc := 121) C fd_X6_243 rfl dX6_readsRule_121 h (fun v20 h => ?_)
        refine r_aload_n (pc := 124) (i := 0) C dX6_readsRule_124 rfl rfl ?_
        refine r_getI (pc := 125) C fd_X6_189 rfl dX6_readsRule_125 h (fun v21 h => ?_)
        refine r_iast (pc := 128) C dX6_readsRule_128 h (fun σ22 h => ?_)
        refine r_aload_n (pc := 129) (i := 0) C dX6_readsRule_129 rfl rfl ?_
        refine r_callVI (pc := 130) (As := []) (st := []) C cs_X6_246_X6_readsCondition h (fun _ _ e => w_X6_readsCondition (Nat.le_refl 6) e) (fun _ _ e => t_X6_readsCondition e) (Nat.le_trans (Nat.le_of_ble_eq_true rfl) hd) (Nat.le_of_ble_eq_true rfl) dX6_readsRule_130 (fun v24 σ23 h => ?_)
        refine r_ifne (pc := 133) (tgt := 138) C dX6_readsRule_133 (by decide) h (fun h => ?_) (fun h => ?_)
        · refine r_aload_n (pc := 138) (i := 0) C dX6_readsRule_138 rfl rfl ?_
          refine r_getP (pc := 139) C fd_X6_44 rfl dX6_readsRule_139 h (fun p25 h => ?_)
          refine r_aload_n (pc := 142) (i := 0) C dX6_readsRule_142 rfl rfl ?_
          refine r_getI (pc := 143) C fd_X6_243 rfl dX6_readsRule_143 h (fun v26 h => ?_)
          refine r_aload_n (pc := 146) (i := 0) C dX6_readsRule_146 rfl rfl ?_
          refine r_getI (pc := 147) C fd_X6_189 rfl dX6_readsRule_147 h (fun v27 h => ?_)
          refine r_iast (pc := 150) C dX6_readsRule_150 h (fun σ28 h => ?_)
          refine r_aload_n (pc := 151) (i := 0) C dX6_readsRule_151 rfl rfl ?_
          refine r_aload_n (pc := 152) (i := 0) C dX6_readsRule_152 rfl rfl ?_
          refine r_getI (pc := 153) C fd_X6_243 rfl dX6_readsRule_153 h (fun v29 h => ?_)
          refine r_iconst (pc := 156) (v := 1) C dX6_readsRule_156 (by decide) ?_
          refine r_iadd (pc := 157) C dX6_readsRule_157 ?_
          refine r_putI (pc := 158) C fd_X6_243 ft_X6_15 dX6_readsRule_158 h (fun σ30 h => ?_)
          refine r_iconst (pc := 161) (v := 1) C dX6_readsRule_161 (by decide) ?_
          exact r_zretL (pc := 162) C rfl dX6_readsRule_162 (Or.inr rfl) h E
        · refine r_iconst (pc := 136) (v := 0) C dX6_readsRule_136 (by decide) ?_
          exact r_zretL (pc := 137) C rfl dX6_readsRule_137 (Or.inl rfl) h E
      · refine r_icmpeq (pc := 104) (tgt := 116) C dX6_readsRule_104 (by decide) h (fun h => ?_) (fun h => ?_)
        · refine r_pick (lv' := [(0, rv B a0)]) [0] rfl ?_
          exact hk18 _ h
        · refine r_aload_n (pc := 107) (i := 0) C dX6_readsRule_107 rfl rfl ?_
          refine r_callVI (pc := 108) (As := []) (st := []) C cs_X6_228_X6_readsSum h (fun _ _ e => w_X6_readsSum (Nat.le_refl 4) e) (fun _ _ e => t_X6_readsSum e) (Nat.le_trans (Nat.le_of_ble_eq_true rfl) hd) (Nat.le_of_ble_eq_true rfl) dX6_readsRule_108 (fun v32 σ31 h => ?_)
          refine r_ifne (pc := 111) (tgt := 116) C dX6_readsRule_111 (by decide) h (fun h => ?_) (fun h => ?_)
          · refine r_pick (lv' := [(0, rv B a0)]) [0] rfl ?_
            exact hk18 _ h
          · refine r_iconst (pc := 114) (v := 0) C dX6_readsRule_114 (by decide) ?_
            exact r_zretL (pc := 115) C rfl dX6_readsRule_115 (Or.inl rfl) h E
    · refine r_aload_n (pc := 48) (i := 0) C dX6_readsRule_48 rfl rfl ?_
      refine r_iconst (pc := 49) (v := 4) C dX6_readsRule_49 (by decide) ?_
      refine r_aload_n (pc := 50) (i := 0) C dX6_readsRule_50 rfl rfl ?_
      refine r_getI (pc := 51) C fd_X6_166 rfl dX6_readsRule_51 h (fun v33 h => ?_)
      refine r_callVI (pc := 54) (As := [.int 4, .int v33]) (st := []) C cs_X6_179_X6_wrongAt h (fun _ _ e => w_X6_wrongAt (Nat.le_refl 0) e) (fun _ _ e => t_X6_wrongAt e) (Nat.le_trans (Nat.le_of_ble_eq_true rfl) hd) (Nat.le_of_ble_eq_true rfl) dX6_readsRule_54 (fun v35 σ34 h => ?_)
      exact r_zret (pc := 57) C rfl dX6_readsRule_57 h E
  · refine r_icmpeq (pc := 8) (tgt := 39) C dX6_readsRule_8 (by decide) h (fun h => ?_) (fun h => ?_)
    · refine r_pick (lv' := [(0, rv B a0), (1, .int v2)]) [0, 1] rfl ?_
      exact hk4 _ h
    · refine r_iload_n (pc := 11) (i := 1) C dX6_readsRule_11 rfl rfl ?_
      refine r_bipush (pc := 12) (v := 105) C dX6_readsRule_12 (by decide) ?_
      refine r_icmpeq (pc := 14) (tgt := 39) C dX6_readsRule_14 (by decide) h (fun h => ?_) (fun h => ?_)
      · refine r_pick (lv' := [(0, rv B a0), (1, .int v2)]) [0, 1] rfl ?_
        exact hk4 _ h
      · refine r_iload_n (pc := 17) (i := 1) C dX6_readsRule_17 rfl rfl ?_
        refine r_bipush (pc := 18) (v := 114) C dX6_readsRule_18 (by decide) ?_
        refine r_icmpeq (pc := 20) (tgt := 39) C dX6_readsRule_20 (by decide) h (fun h => ?_) (fun h => ?_)
        · refine r_pick (lv' := [(0, rv B a0), (1, .int v2)]) [0, 1] rfl ?_
          exact hk4 _ h
        · refine r_iload_n (pc := 23) (i := 1) C dX6_readsRule_23 rfl rfl ?_
          refine r_bipush (pc := 24) (v := 115) C dX6_readsRule_24 (by decide) ?_
          refine r_icmpeq (pc := 26) (tgt := 39) C dX6_readsRule_26 (by decide) h (fun h => ?_) (fun h => ?_)
          · refine r_pick (lv' := [(0, rv B a0), (1, .int v2)]) [0, 1] rfl ?_
            exact hk4 _ h
          · refine r_aload_n (pc := 29) (i := 0) C dX6_readsRule_29 rfl rfl ?_
            refine r_iconst (pc := 30) (v := 1) C dX6_readsRule_30 (by decide) ?_
            refine r_aload_n (pc := 31) (i := 0) C dX6_readsRule_31 rfl rfl ?_
            refine r_getI (pc := 32) C fd_X6_166 rfl dX6_readsRule_32 h (fun v36 h => ?_)
            refine r_callVI (pc := 35) (As := [.int 1, .int v36]) (st := []) C cs_X6_179_X6_wrongAt h (fun _ _ e => w_X6_wrongAt (Nat.le_refl 0) e) (fun _ _ e => t_X6_wrongAt e) (Nat.le_trans (Nat.le_of_ble_eq_true rfl) hd) (Nat.le_of_ble_eq_true rfl) dX6_readsRule_35 (fun v38 σ37 h => ?_)
            exact r_zret (pc := 38) C rfl dX6_readsRule_38 h E
theorem t_X6_readsRule {F : Nat} {σ : MM} {a0 : Nat} {r : Int32 × MM} (h : g_X6_readsRule F σ a0 = some r) : mT σ a0 = (5, 62) := by
  unfold g_X6_readsRule at h
  exact (r_ck h).1
def g_X6_takes (F : Nat) (σ : MM) (a0 : Nat) (x1 : Int32) : Option (Int32 × MM) := if mT σ a0 = (5, 62) then (bq (g_X6_here F σ a0) fun v2 σ1 => if v2 = x1 then ((gI σ1 a0 5 62 8).bind fun v3 => (pI σ1 a0 5 62 8 ((v3 + 1))).bind fun σ4 => some (1, σ4)) else ((gI σ1 a0 5 62 8).bind fun v5 => bq (g_X6_wrongAt F σ1 a0 1 v5) fun v7 σ6 => (rz v7).bind fun u => some (u, σ6))) else none
theorem w_X6_takes {B F : Nat} {d : Nat} {σ : MM} {a0 : Nat} {x1 : Int32} {rf : Int32} {σf : MM} (hd : 1 ≤ d) (h : g_X6_takes F σ a0 x1 = some (rf, σf)) : xMA B yX6_takes cX6_takes 2 (some .boolean) d 0 0 [rv B a0, .int x1] σ (some (.int rf)) σf := by
  refine xMA.of (by decide +kernel) (Nat.le_of_ble_eq_true rfl) (cat_rv (cat_int cat_nil)) (fun G C E => ?_)
  unfold g_X6_takes at h
  obtain ⟨-, h⟩ := r_ck h
  refine r_aload_n (pc := 0) (i := 0) C dX6_takes_0 rfl rfl ?_
  refine r_callVI (pc := 1) (As := []) (st := []) C cs_X6_172_X6_here h (fun _ _ e => w_X6_here (Nat.le_refl 0) e) (fun _ _ e => t_X6_here e) (Nat.le_trans (Nat.le_of_ble_eq_true rfl) hd) (Nat.le_of_ble_eq_true rfl) dX6_takes_1 (fun v2 σ1 h => ?_)
  refine r_iload_n (pc := 4) (i := 1) C dX6_takes_4 rfl rfl ?_
  refine r_icmpeq (pc := 5) (tgt := 18) C dX6_takes_5 (by decide) h (fun h => ?_) (fun h => ?_)
  · refine r_aload_n (pc := 18) (i := 0) C dX6_takes_18 rfl rfl ?_
    refine r_aload_n (pc := 19) (i := 0) C dX6_takes_19 rfl rfl ?_
    refine r_getI (pc := 20) C fd_X6_166 rfl dX6_takes_20 h (fun v3 h => ?_)
    refine r_iconst (pc := 23) (v := 1) C dX6_takes_23 (by decide) ?_
    refine r_iadd (pc := 24) C dX6_takes_24 ?_
    refine r_putI (pc := 25) C fd_X6_166 ft_X6_8 dX6_takes_25 h (fun σ4 h => ?_)
    refine r_iconst (pc := 28) (v := 1) C dX6_takes_28 (by decide) ?_
    exact r_zretL (pc := 29) C rfl dX6_takes_29 (Or.inr rfl) h E
  · refine r_aload_n (pc := 8) (i := 0) C dX6_takes_8 rfl rfl ?_
    refine r_iconst (pc := 9) (v := 1) C dX6_takes_9 (by decide) ?_
    refine r_aload_n (pc := 10) (i := 0) C dX6_takes_10 rfl rfl ?_
    refine r_getI (pc := 11) C fd_X6_166 rfl dX6_takes_11 h (fun v5 h => ?_)
    refine r_callVI (pc := 14) (As := [.int 1, .int v5]) (st := []) C cs_X6_179_X6_wrongAt h (fun _ _ e => w_X6_wrongAt (Nat.le_refl 0) e) (fun _ _ e => t_X6_wrongAt e) (Nat.le_trans (Nat.le_of_ble_eq_true rfl) hd) (Nat.le_of_ble_eq_true rfl) dX6_takes_14 (fun v7 σ6 h => ?_)
    exact r_zret (pc := 17) C rfl dX6_takes_17 h E
theorem t_X6_takes {F : Nat} {σ : MM} {a0 : Nat} {x1 : Int32} {r : Int32 × MM} (h : g_X6_takes F σ a0 x1 = some r) : mT σ a0 = (5, 62) := by
  unfold g_X6_takes at h
  exact (r_ck h).1
theorem yd_X6_readsRule : xYd yX6_readsRule 0 := ⟨by decide +kernel, by decide +kernel, by decide +kernel⟩
theorem cs_X6_249_X6_readsRule : xCV RX6 249 yX6_readsRule cX6_readsRule 2 (some .boolean) 5 62 0 := ⟨by decide, by decide, _, rfl, yd_X6_readsRule, Or.inl ⟨rfl, lw_V q1494 q1496 qs49 q122 q1497⟩⟩
theorem yd_X6_takes : xYd yX6_takes 1 := ⟨by decide +kernel, by decide +kernel, by decide +kernel⟩
theorem cs_X6_252_X6_takes : xCV RX6 252 yX6_takes cX6_takes 2 (some .boolean) 5 62 1 := ⟨by decide, by decide, _, rfl, yd_X6_takes, Or.inl ⟨rfl, lw_V q1569 q1571 qs66 q122 q1572⟩⟩
theorem fd_X6_255 : xFg RX6 255 5 62 16 := ⟨_, rfl, rfl, by decide, by decide, in_X6, Or.inl q1281⟩
theorem ft_X6_16 : xFt 5 16 .int false := ⟨_, rfl, by decide +kernel, rfl, rfl⟩
theorem fd_X6_47 : xFg RX6 47 5 62 23 := ⟨_, rfl, rfl, by decide, by decide, in_X6, Or.inl q1288⟩
theorem ft_X6_23 : xFt 5 23 (.array .int) true := ⟨_, rfl, by decide +kernel, rfl, rfl⟩
theorem fd_X6_50 : xFg RX6 50 5 62 24 := ⟨_, rfl, rfl, by decide, by decide, in_X6, Or.inl q1289⟩
theorem ft_X6_24 : xFt 5 24 (.array .int) true := ⟨_, rfl, by decide +kernel, rfl, rfl⟩
theorem fd_X6_53 : xFg RX6 53 5 62 25 := ⟨_, rfl, rfl, by decide, by decide, in_X6, Or.inl q1290⟩
theorem ft_X6_25 : xFt 5 25 (.array .int) true := ⟨_, rfl, by decide +kernel, rfl, rfl⟩
theorem fd_X6_56 : xFg RX6 56 5 62 26 := ⟨_, rfl, rfl, by decide, by decide, in_X6, Or.inl q1291⟩
theorem ft_X6_26 : xFt 5 26 (.array .int) true := ⟨_, rfl, by decide +kernel, rfl, rfl⟩
theorem fd_X6_59 : xFg RX6 59 5 62 27 := ⟨_, rfl, rfl, by decide, by decide, in_X6, Or.inl q1292⟩
theorem ft_X6_27 : xFt 5 27 (.array .int) true := ⟨_, rfl, by decide +kernel, rfl, rfl⟩
def l_X6_law_46 (K : Int32 → MM → Option (Int32 × MM)) (F : Nat) (a0 : Nat) : Nat → Int32 → MM → Option (Int32 × MM)
  | 0, _, _ => none
  | f + 1, z2, σ => if z2 = 0 then (K z2 σ) else ((gI σ a0 5 62 8).bind fun v10 => (gI σ a0 5 62 9).bind fun v11 => if v10 < v11 then (bq (g_X6_takes F σ a0 59) fun v13 σ12 => if v13 = 0 then (l_X6_law_46 K F a0 f 0 σ12) else (bq (g_X6_readsRule F σ12 a0) fun v15 σ14 => if v15 = 0 then (l_X6_law_46 K F a0 f 0 σ14) else (l_X6_law_46 K F a0 f 1 σ14))) else (K z2 σ))
def l_X6_law_110 (K : MM → Option (Int32 × MM)) (F : Nat) (a0 : Nat) : Nat → Int32 → MM → Option (Int32 × MM)
  | 0, _, _ => none
  | f + 1, z3, σ => (gI σ a0 5 62 13).bind fun v21 => if z3 < v21 then ((gP σ a0 5 62 23).bind fun p22 => (gP σ a0 5 62 17).bind fun p23 => (aI σ p23 20 z3).bind fun v24 => (sI σ p22 z3 v24).bind fun σ25 => l_X6_law_110 K F a0 f ((z3 + 1)) σ25) else (K σ)
def l_X6_law_138 (K : MM → Option (Int32 × MM)) (F : Nat) (a0 : Nat) : Nat → Int32 → MM → Option (Int32 × MM)
  | 0, _, _ => none
  | f + 1, z3, σ => (gI σ a0 5 62 15).bind fun v27 => if z3 < v27 then ((gP σ a0 5 62 24).bind fun p28 => (gP σ a0 5 62 19).bind fun p29 => (aI σ p29 20 z3).bind fun v30 => (sI σ p28 z3 v30).bind fun σ31 => (gP σ31 a0 5 62 25).bind fun p32 => (gP σ31 a0 5 62 20).bind fun p33 => (aI σ31 p33 20 z3).bind fun v34 => (sI σ31 p32 z3 v34).bind fun σ35 => (gP σ35 a0 5 62 26).bind fun p36 => (gP σ35 a0 5 62 21).bind fun p37 => (aI σ35 p37 20 z3).bind fun v38 => (sI σ35 p36 z3 v38).bind fun σ39 => (gP σ39 a0 5 62 27).bind fun p40 => (gP σ39 a0 5 62 22).bind fun p41 => (aI σ39 p41 20 z3).bind fun v42 => (sI σ39 p40 z3 v42).bind fun σ43 => l_X6_law_138 K F a0 f ((z3 + 1)) σ43) else (K σ)
def g_X6_law (F : Nat) (σ : MM) (a0 : Nat) (x1 : Int32) : Option (Int32 × MM) := if mT σ a0 = (5, 62) then (bq (g_X6_in F σ x1 1 240) fun v2 σ1 => if v2 = 0 then (some ((-1), σ1)) else ((gI σ1 a0 5 62 7).bind fun v3 => if v3 < x1 then (some ((-1), σ1)) else ((pI σ1 a0 5 62 8 0).bind fun σ4 => (pI σ4 a0 5 62 9 x1).bind fun σ5 => (pI σ5 a0 5 62 13 0).bind fun σ6 => (pI σ6 a0 5 62 15 0).bind fun σ7 => bq (g_X6_readsRule F σ7 a0) fun v9 σ8 => l_X6_law_46 (fun (r2_17 : Int32) (σ16 : MM) => (pI σ16 a0 5 62 7 0).bind fun σ18 => if r2_17 = 0 then ((gI σ18 a0 5 62 10).bind fun v46 => some (v46, σ18)) else ((gI σ18 a0 5 62 15).bind fun v19 => (pI σ18 a0 5 62 16 v19).bind fun σ20 => l_X6_law_110 (fun (σ26 : MM) => l_X6_law_138 (fun (σ44 : MM) => (gI σ44 a0 5 62 15).bind fun v45 => some (v45, σ44)) F a0 F 0 σ26) F a0 F 0 σ20)) F a0 F v9 σ8))) else none
theorem wl_X6_law_46 {B : Nat} {G : XG} {d : Nat} {rf : Int32} {σf : MM} (hd : 8 ≤ d) (C : xC B G yX6_law cX6_law 4 (some .int) d 0 0) (E : xEnd B G (some (.int rf)) σf 0 0) {K : Int32 → MM → Option (Int32 × MM)} {F : Nat} {a0 : Nat} (hK : ∀ (q2 : Int32) (σ : MM), K q2 σ = some (rf, σf) → xV B G 0 0 σ 86 [(0, rv B a0), (2, .int q2)] []) : ∀ (f : Nat) (z2 : Int32) (σ : MM), l_X6_law_46 K F a0 f z2 σ = some (rf, σf) → xV B G 0 0 σ 46 [(0, rv B a0), (2, .int z2)] [] := by
  intro f
  induction f with
  | zero =>
    intro z2 σ h
    have h : none = some (rf, σf) := h
    cases h
  | succ f ih =>
    intro z2 σ h
    rw [l_X6_law_46.eq_2] at h
    refine r_iload_n (pc := 46) (i := 2) C dX6_law_46 rfl rfl ?_
    refine r_ifeq (pc := 47) (tgt := 86) C dX6_law_47 (by decide) h (fun h => ?_) (fun h => ?_)
    · refine r_pick (lv' := [(0, rv B a0), (2, .int z2)]) [0, 2] rfl ?_
      exact hK _ _ h
    · refine r_aload_n (pc := 50) (i := 0) C dX6_law_50 rfl rfl ?_
      refine r_getI (pc := 51) C fd_X6_166 rfl dX6_law_51 h (fun v10 h => ?_)
      refine r_aload_n (pc := 54) (i := 0) C dX6_law_54 rfl rfl ?_
      refine r_getI (pc := 55) C fd_X6_169 rfl dX6_law_55 h (fun v11 h => ?_)
      refine r_icmpge (pc := 58) (tgt := 86) C dX6_law_58 (by decide) h (fun h => ?_) (fun h => ?_)
      · refine r_pick (lv' := [(0, rv B a0), (2, .int z2)]) [0, 2] rfl ?_
        exact hK _ _ h
      · refine r_aload_n (pc := 61) (i := 0) C dX6_law_61 rfl rfl ?_
        refine r_bipush (pc := 62) (v := 59) C dX6_law_62 (by decide) ?_
        refine r_callVI (pc := 64) (As := [.int 59]) (st := []) C cs_X6_252_X6_takes h (fun _ _ e => w_X6_takes (Nat.le_refl 1) e) (fun _ _ e => t_X6_takes e) (Nat.le_trans (Nat.le_of_ble_eq_true rfl) hd) (Nat.le_of_ble_eq_true rfl) dX6_law_64 (fun v13 σ12 h => ?_)
        refine r_ifeq (pc := 67) (tgt := 81) C dX6_law_67 (by decide) h (fun h => ?_) (fun h => ?_)
        · refine r_iconst (pc := 81) (v := 0) C dX6_law_81 (by decide) ?_
          refine r_istore_n (pc := 82) (i := 2) C dX6_law_82 rfl (by decide) ?_
          refine r_goto (pc := 83) (tgt := 46) C dX6_law_83 (by decide) ?_
          refine r_pick (lv' := [(0, rv B a0), (2, .int 0)]) [0, 2] rfl ?_
          exact ih _ _ h
        · refine r_aload_n (pc := 70) (i := 0) C dX6_law_70 rfl rfl ?_
          refine r_callVI (pc := 71) (As := []) (st := []) C cs_X6_249_X6_readsRule h (fun _ _ e => w_X6_readsRule (Nat.le_refl 7) e) (fun _ _ e => t_X6_readsRule e) (Nat.le_trans (Nat.le_of_ble_eq_true rfl) hd) (Nat.le_of_ble_eq_true rfl) dX6_law_71 (fun v15 σ14 h => ?_)
          refine r_ifeq (pc := 74) (tgt := 81) C dX6_law_74 (by decide) h (fun h => ?_) (fun h => ?_)
          · refine r_iconst (pc := 81) (v := 0) C dX6_law_81 (by decide) ?_
            refine r_istore_n (pc := 82) (i := 2) C dX6_law_82 rfl (by decide) ?_
            refine r_goto (pc := 83) (tgt := 46) C dX6_law_83 (by decide) ?_
            refine r_pick (lv' := [(0, rv B a0), (2, .int 0)]) [0, 2] rfl ?_
            exact ih _ _ h
          · refine r_iconst (pc := 77) (v := 1) C dX6_law_77 (by decide) ?_
            refine r_goto (pc := 78) (tgt := 82) C dX6_law_78 (by decide) ?_
            refine r_istore_n (pc := 82) (i := 2) C dX6_law_82 rfl (by decide) ?_
            refine r_goto (pc := 83) (tgt := 46) C dX6_law_83 (by decide) ?_
            refine r_pick (lv' := [(0, rv B a0), (2, .int 1)]) [0, 2] rfl ?_
            exact ih _ _ h
theorem wl_X6_law_110 {B : Nat} {G : XG} {d : Nat} {rf : Int32} {σf : MM} (hd : 8 ≤ d) (C : xC B G yX6_law cX6_law 4 (some .int) d 0 0) (E : xEnd B G (some (.int rf)) σf 0 0) {K : MM → Option (Int32 × MM)} {F : Nat} {a0 : Nat} (hK : ∀ (σ : MM), K σ = some (rf, σf) → xV B G 0 0 σ 136 [(0, rv B a0)] []) : ∀ (f : Nat) (z3 : Int32) (σ : MM), l_X6_law_110 K F a0 f z3 σ = some (rf, σf) → xV B G 0 0 σ 110 [(0, rv B a0), (3, .int z3)] [] := by
  intro f
  induction f with
  | zero =>
    intro z3 σ h
    have h : none = some (rf, σf) := h
    cases h
  | succ f ih =>
    intro z3 σ h
    rw [l_X6_law_110.eq_2] at h
    refine r_iload_n (pc := 110) (i := 3) C dX6_law_110 rfl rfl ?_
    refine r_aload_n (pc := 111) (i := 0) C dX6_law_111 rfl rfl ?_
    refine r_getI (pc := 112) C fd_X6_189 rfl dX6_law_112 h (fun v21 h => ?_)
    refine r_icmpge (pc := 115) (tgt := 136) C dX6_law_115 (by decide) h (fun h => ?_) (fun h => ?_)
    · refine r_pick (lv' := [(0, rv B a0)]) [0] rfl ?_
      exact hK _ h
    · refine r_aload_n (pc := 118) (i := 0) C dX6_law_118 rfl rfl ?_
      refine r_getP (pc := 119) C fd_X6_47 rfl dX6_law_119 h (fun p22 h => ?_)
      refine r_iload_n (pc := 122) (i := 3) C dX6_law_122 rfl rfl ?_
      refine r_aload_n (pc := 123) (i := 0) C dX6_law_123 rfl rfl ?_
      refine r_getP (pc := 124) C fd_X6_29 rfl dX6_law_124 h (fun p23 h => ?_)
      refine r_iload_n (pc := 127) (i := 3) C dX6_law_127 rfl rfl ?_
      refine r_iald (pc := 128) C dX6_law_128 h (fun v24 h => ?_)
      refine r_iast (pc := 129) C dX6_law_129 h (fun σ25 h => ?_)
      refine r_iinc (pc := 130) (i := 3) (v := (z3 + 1)) C dX6_law_130 rfl rfl (by decide) ?_
      refine r_goto (pc := 133) (tgt := 110) C dX6_law_133 (by decide) ?_
      refine r_pick (lv' := [(0, rv B a0), (3, .int (z3 + 1))]) [0, 3] rfl ?_
      exact ih _ _ h
theorem wl_X6_law_138 {B : Nat} {G : XG} {d : Nat} {rf : Int32} {σf : MM} (hd : 8 ≤ d) (C : xC B G yX6_law cX6_law 4 (some .int) d 0 0) (E : xEnd B G (some (.int rf)) σf 0 0) {K : MM → Option (Int32 × MM)} {F : Nat} {a0 : Nat} (hK : ∀ (σ : MM), K σ = some (rf, σf) → xV B G 0 0 σ 200 [(0, rv B a0)] []) : ∀ (f : Nat) (z3 : Int32) (σ : MM), l_X6_law_138 K F a0 f z3 σ = some (rf, σf) → xV B G 0 0 σ 138 [(0, rv B a0), (3, .int z3)] [] := by
  intro f
  induction f with
  | zero =>
    intro z3 σ h
    have h : none = some (rf, σf) := h
    cases h
  | succ f ih =>
    intro z3 σ h
    rw [l_X6_law_138.eq_2] at h
    refine r_iload_n (pc := 138) (i := 3) C dX6_law_138 rfl rfl ?_
    refine r_aload_n (pc := 139) (i := 0) C dX6_law_139 rfl rfl ?_
    refine r_getI (pc := 140) C fd_X6_243 rfl dX6_law_140 h (fun v27 h => ?_)
    refine r_icmpge (pc := 143) (tgt := 200) C dX6_law_143 (by decide) h (fun h => ?_) (fun h => ?_)
    · refine r_pick (lv' := [(0, rv B a0)]) [0] rfl ?_
      exact hK _ h
    · refine r_aload_n (pc := 146) (i := 0) C dX6_law_146 rfl rfl ?_
      refine r_getP (pc := 147) C fd_X6_50 rfl dX6_law_147 h (fun p28 h => ?_)
      refine r_iload_n (pc := 150) (i := 3) C dX6_law_150 rfl rfl ?_
      refine r_aload_n (pc := 151) (i := 0) C dX6_law_151 rfl rfl ?_
      refine r_getP (pc := 152) C fd_X6_35 rfl dX6_law_152 h (fun p29 h => ?_)
      refine r_iload_n (pc := 155) (i := 3) C dX6_law_155 rfl rfl ?_
      refine r_iald (pc := 156) C dX6_law_156 h (fun v30 h => ?_)
      refine r_iast (pc := 157) C dX6_law_157 h (fun σ31 h => ?_)
      refine r_aload_n (pc := 158) (i := 0) C dX6_law_158 rfl rfl ?_
      refine r_getP (pc := 159) C fd_X6_53 rfl dX6_law_159 h (fun p32 h => ?_)
      refine r_iload_n (pc := 162) (i := 3) C dX6_law_162 rfl rfl ?_
      refine r_aload_n (pc := 163) (i := 0) C dX6_law_163 rfl rfl ?_
      refine r_getP (pc := 164) C fd_X6_38 rfl dX6_law_164 h (fun p33 h => ?_)
      refine r_iload_n (pc := 167) (i := 3) C dX6_law_167 rfl rfl ?_
      refine r_iald (pc := 168) C dX6_law_168 h (fun v34 h => ?_)
      refine r_iast (pc := 169) C dX6_law_169 h (fun σ35 h => ?_)
      refine r_aload_n (pc := 170) (i := 0) C dX6_law_170 rfl rfl ?_
      refine r_getP (pc := 171) C fd_X6_56 rfl dX6_law_171 h (fun p36 h => ?_)
      refine r_iload_n (pc := 174) (i := 3) C dX6_law_174 rfl rfl ?_
      refine r_aload_n (pc := 175) (i := 0) C dX6_law_175 rfl rfl ?_
      refine r_getP (pc := 176) C fd_X6_41 rfl dX6_law_176 h (fun p37 h => ?_)
      refine r_iload_n (pc := 179) (i := 3) C dX6_law_179 rfl rfl ?_
      refine r_iald (pc := 180) C dX6_law_180 h (fun v38 h => ?_)
      refine r_iast (pc := 181) C dX6_law_181 h (fun σ39 h => ?_)
      refine r_aload_n (pc := 182) (i := 0) C dX6_law_182 rfl rfl ?_
      refine r_getP (pc := 183) C fd_X6_59 rfl dX6_law_183 h (fun p40 h => ?_)
      refine r_iload_n (pc := 186) (i := 3) C dX6_law_186 rfl rfl ?_
      refine r_aload_n (pc := 187) (i := 0) C dX6_law_187 rfl rfl ?_
      refine r_getP (pc := 188) C fd_X6_44 rfl dX6_law_188 h (fun p41 h => ?_)
      refine r_iload_n (pc := 191) (i := 3) C dX6_law_191 rfl rfl ?_
      refine r_iald (pc := 192) C dX6_law_192 h (fun v42 h => ?_)
      refine r_iast (pc := 193) C dX6_law_193 h (fun σ43 h => ?_)
      refine r_iinc (pc := 194) (i := 3) (v := (z3 + 1)) C dX6_law_194 rfl rfl (by decide) ?_
      refine r_goto (pc := 197) (tgt := 138) C dX6_law_197 (by decide) ?_
      refine r_pick (lv' := [(0, rv B a0), (3, .int (z3 + 1))]) [0, 3] rfl ?_
      exact ih _ _ h
theorem w_X6_law {B F : Nat} {d : Nat} {σ : MM} {a0 : Nat} {x1 : Int32} {rf : Int32} {σf : MM} (hd : 8 ≤ d) (h : g_X6_law F σ a0 x1 = some (rf, σf)) : xMA B yX6_law cX6_law 4 (some .int) d 0 0 [rv B a0, .int x1] σ (some (.int rf)) σf := by
  refine xMA.of (by decide +kernel) (Nat.le_of_ble_eq_true rfl) (cat_rv (cat_int cat_nil)) (fun G C E => ?_)
  unfold g_X6_law at h
  obtain ⟨-, h⟩ := r_ck h
  refine r_iload_n (pc := 0) (i := 1) C dX6_law_0 rfl rfl ?_
  refine r_iconst (pc := 1) (v := 1) C dX6_law_1 (by decide) ?_
  refine r_sipush (pc := 2) (v := 240) C dX6_law_2 (by decide) ?_
  refine r_callSI (pc := 5) (As := [.int x1, .int 1, .int 240]) (st := []) C cs_X6_123_X6_in h (fun _ _ e => w_X6_in (Nat.le_refl 0) e) (Nat.le_trans (Nat.le_of_ble_eq_true rfl) hd) (Nat.le_of_ble_eq_true rfl) dX6_law_5 (fun v2 σ1 h => ?_)
  refine r_ifeq (pc := 8) (tgt := 19) C dX6_law_8 (by decide) h (fun h => ?_) (fun h => ?_)
  · refine r_iconst (pc := 19) (v := (-1)) C dX6_law_19 (by decide) ?_
    exact r_iret (pc := 20) C rfl dX6_law_20 h E
  · refine r_iload_n (pc := 11) (i := 1) C dX6_law_11 rfl rfl ?_
    refine r_aload_n (pc := 12) (i := 0) C dX6_law_12 rfl rfl ?_
    refine r_getI (pc := 13) C fd_X6_160 rfl dX6_law_13 h (fun v3 h => ?_)
    refine r_icmple (pc := 16) (tgt := 21) C dX6_law_16 (by decide) h (fun h => ?_) (fun h => ?_)
    · refine r_aload_n (pc := 21) (i := 0) C dX6_law_21 rfl rfl ?_
      refine r_iconst (pc := 22) (v := 0) C dX6_law_22 (by decide) ?_
      refine r_putI (pc := 23) C fd_X6_166 ft_X6_8 dX6_law_23 h (fun σ4 h => ?_)
      refine r_aload_n (pc := 26) (i := 0) C dX6_law_26 rfl rfl ?_
      refine r_iload_n (pc := 27) (i := 1) C dX6_law_27 rfl rfl ?_
      refine r_putI (pc := 28) C fd_X6_169 ft_X6_9 dX6_law_28 h (fun σ5 h => ?_)
      refine r_aload_n (pc := 31) (i := 0) C dX6_law_31 rfl rfl ?_
      refine r_iconst (pc := 32) (v := 0) C dX6_law_32 (by decide) ?_
      refine r_putI (pc := 33) C fd_X6_189 ft_X6_13 dX6_law_33 h (fun σ6 h => ?_)
      refine r_aload_n (pc := 36) (i := 0) C dX6_law_36 rfl rfl ?_
      refine r_iconst (pc := 37) (v := 0) C dX6_law_37 (by decide) ?_
      refine r_putI (pc := 38) C fd_X6_243 ft_X6_15 dX6_law_38 h (fun σ7 h => ?_)
      refine r_aload_n (pc := 41) (i := 0) C dX6_law_41 rfl rfl ?_
      refine r_callVI (pc := 42) (As := []) (st := []) C cs_X6_249_X6_readsRule h (fun _ _ e => w_X6_readsRule (Nat.le_refl 7) e) (fun _ _ e => t_X6_readsRule e) (Nat.le_trans (Nat.le_of_ble_eq_true rfl) hd) (Nat.le_of_ble_eq_true rfl) dX6_law_42 (fun v9 σ8 h => ?_)
      refine r_istore_n (pc := 45) (i := 2) C dX6_law_45 rfl (by decide) ?_
      refine r_pick (lv' := [(0, rv B a0), (2, .int v9)]) [0, 2] rfl ?_
      refine wl_X6_law_46 hd C E (fun r2_17 σ16 h => ?_) _ _ _ h
      refine r_aload_n (pc := 86) (i := 0) C dX6_law_86 rfl rfl ?_
      refine r_iconst (pc := 87) (v := 0) C dX6_law_87 (by decide) ?_
      refine r_putI (pc := 88) C fd_X6_160 ft_X6_7 dX6_law_88 h (fun σ18 h => ?_)
      refine r_iload_n (pc := 91) (i := 2) C dX6_law_91 rfl rfl ?_
      refine r_ifne (pc := 92) (tgt := 100) C dX6_law_92 (by decide) h (fun h => ?_) (fun h => ?_)
      · refine r_aload_n (pc := 100) (i := 0) C dX6_law_100 rfl rfl ?_
        refine r_aload_n (pc := 101) (i := 0) C dX6_law_101 rfl rfl ?_
        refine r_getI (pc := 102) C fd_X6_243 rfl dX6_law_102 h (fun v19 h => ?_)
        refine r_putI (pc := 105) C fd_X6_255 ft_X6_16 dX6_law_105 h (fun σ20 h => ?_)
        refine r_iconst (pc := 108) (v := 0) C dX6_law_108 (by decide) ?_
        refine r_istore_n (pc := 109) (i := 3) C dX6_law_109 rfl (by decide) ?_
        refine r_pick (lv' := [(0, rv B a0), (3, .int 0)]) [0, 3] rfl ?_
        refine wl_X6_law_110 hd C E (fun  σ26 h => ?_) _ _ _ h
        refine r_iconst (pc := 136) (v := 0) C dX6_law_136 (by decide) ?_
        refine r_istore_n (pc := 137) (i := 3) C dX6_law_137 rfl (by decide) ?_
        refine r_pick (lv' := [(0, rv B a0), (3, .int 0)]) [0, 3] rfl ?_
        refine wl_X6_law_138 hd C E (fun  σ44 h => ?_) _ _ _ h
        refine r_aload_n (pc := 200) (i := 0) C dX6_law_200 rfl rfl ?_
        refine r_getI (pc := 201) C fd_X6_243 rfl dX6_law_201 h (fun v45 h => ?_)
        exact r_iret (pc := 204) C rfl dX6_law_204 h E
      · refine r_aload_n (pc := 95) (i := 0) C dX6_law_95 rfl rfl ?_
        refine r_getI (pc := 96) C fd_X6_176 rfl dX6_law_96 h (fun v46 h => ?_)
        exact r_iret (pc := 99) C rfl dX6_law_99 h E
    · refine r_iconst (pc := 19) (v := (-1)) C dX6_law_19 (by decide) ?_
      exact r_iret (pc := 20) C rfl dX6_law_20 h E
theorem t_X6_law {F : Nat} {σ : MM} {a0 : Nat} {x1 : Int32} {r : Int32 × MM} (h : g_X6_law F σ a0 x1 = some r) : mT σ a0 = (5, 62) := by
  unfold g_X6_law at h
  exact (r_ck h).1
theorem fd_X6_283 : xFg RX6 283 5 62 31 := ⟨_, rfl, rfl, by decide, by decide, in_X6, Or.inl q1296⟩
theorem ft_X6_31 : xFt 5 31 .int false := ⟨_, rfl, by decide +kernel, rfl, rfl⟩
def g_X6_readsPerson (F : Nat) (σ : MM) (a0 : Nat) (x1 : Int32) : Option (Int32 × MM) := if mT σ a0 = (5, 62) then (bq (g_X6_here F σ a0) fun v2 σ1 => bq (g_X6_in F σ1 v2 97 106) fun v4 σ3 => if v4 = 0 then ((gI σ3 a0 5 62 8).bind fun v22 => bq (g_X6_wrongAt F σ3 a0 1 v22) fun v24 σ23 => (rz v24).bind fun u => some (u, σ23)) else (jn (fun (σ5 : MM) => bq (g_X6_here F σ5 a0) fun v8 σ7 => (pI σ7 a0 5 62 11 ((v8 - 97))).bind fun σ9 => (gI σ9 a0 5 62 11).bind fun v10 => bq (g_X6_isPerson F σ9 a0 v10) fun v12 σ11 => if v12 = 0 then ((gI σ11 a0 5 62 8).bind fun v15 => bq (g_X6_wrongAt F σ11 a0 7 v15) fun v17 σ16 => (rz v17).bind fun u => some (u, σ16)) else ((gI σ11 a0 5 62 8).bind fun v13 => (pI σ11 a0 5 62 8 ((v13 + 1))).bind fun σ14 => some (1, σ14))) (fun k6 => if x1 = 0 then (k6 σ3) else ((gI σ3 a0 5 62 31).bind fun v18 => if v18 = 30 then ((gI σ3 a0 5 62 8).bind fun v19 => bq (g_X6_wrongAt F σ3 a0 4 v19) fun v21 σ20 => (rz v21).bind fun u => some (u, σ20)) else (k6 σ3))))) else none
theorem w_X6_readsPerson {B F : Nat} {d : Nat} {σ : MM} {a0 : Nat} {x1 : Int32} {rf : Int32} {σf : MM} (hd : 2 ≤ d) (h : g_X6_readsPerson F σ a0 x1 = some (rf, σf)) : xMA B yX6_readsPerson cX6_readsPerson 2 (some .boolean) d 0 0 [rv B a0, .int x1] σ (some (.int rf)) σf := by
  refine xMA.of (by decide +kernel) (Nat.le_of_ble_eq_true rfl) (cat_rv (cat_int cat_nil)) (fun G C E => ?_)
  unfold g_X6_readsPerson at h
  obtain ⟨-, h⟩ := r_ck h
  refine r_aload_n (pc := 0) (i := 0) C dX6_readsPerson_0 rfl rfl ?_
  refine r_callVI (pc := 1) (As := []) (st := []) C cs_X6_172_X6_here h (fun _ _ e => w_X6_here (Nat.le_refl 0) e) (fun _ _ e => t_X6_here e) (Nat.le_trans (Nat.le_of_ble_eq_true rfl) hd) (Nat.le_of_ble_eq_true rfl) dX6_readsPerson_1 (fun v2 σ1 h => ?_)
  refine r_bipush (pc := 4) (v := 97) C dX6_readsPerson_4 (by decide) ?_
  refine r_bipush (pc := 6) (v := 106) C dX6_readsPerson_6 (by decide) ?_
  refine r_callSI (pc := 8) (As := [.int v2, .int 97, .int 106]) (st := []) C cs_X6_123_X6_in h (fun _ _ e => w_X6_in (Nat.le_refl 0) e) (Nat.le_trans (Nat.le_of_ble_eq_true rfl) hd) (Nat.le_of_ble_eq_true rfl) dX6_readsPerson_8 (fun v4 σ3 h => ?_)
  refine r_ifne (pc := 11) (tgt := 24) C dX6_readsPerson_11 (by decide) h (fun h => ?_) (fun h => ?_)
  · refine r_iload_n (pc := 24) (i := 1) C dX6_readsPerson_24 rfl rfl ?_
    refine r_jn (fun k9 => ∀  (σ5 : MM), k9 σ5 = some (rf, σf) → xV B G 0 0 σ5 47 [(0, rv B a0)] []) h (fun  σ5 h => ?_) (fun k6 hk6 h => ?_)
    · refine r_aload_n (pc := 47) (i := 0) C dX6_readsPerson_47 rfl rfl ?_
      refine r_aload_n (pc := 48) (i := 0) C dX6_readsPerson_48 rfl rfl ?_
      refine r_callVI (pc := 49) (As := []) (st := [rv B a0]) C cs_X6_172_X6_here h (fun _ _ e => w_X6_here (Nat.le_refl 0) e) (fun _ _ e => t_X6_here e) (Nat.le_trans (Nat.le_of_ble_eq_true rfl) hd) (Nat.le_of_ble_eq_true rfl) dX6_readsPerson_49 (fun v8 σ7 h => ?_)
      refine r_bipush (pc := 52) (v := 97) C dX6_readsPerson_52 (by decide) ?_
      refine r_isub (pc := 54) C dX6_readsPerson_54 ?_
      refine r_putI (pc := 55) C fd_X6_182 ft_X6_11 dX6_readsPerson_55 h (fun σ9 h => ?_)
      refine r_aload_n (pc := 58) (i := 0) C dX6_readsPerson_58 rfl rfl ?_
      refine r_aload_n (pc := 59) (i := 0) C dX6_readsPerson_59 rfl rfl ?_
      refine r_getI (pc := 60) C fd_X6_182 rfl dX6_readsPerson_60 h (fun v10 h => ?_)
      refine r_callVI (pc := 63) (As := [.int v10]) (st := []) C cs_X6_135_X6_isPerson h (fun _ _ e => w_X6_isPerson (Nat.le_refl 1) e) (fun _ _ e => t_X6_isPerson e) (Nat.le_trans (Nat.le_of_ble_eq_true rfl) hd) (Nat.le_of_ble_eq_true rfl) dX6_readsPerson_63 (fun v12 σ11 h => ?_)
      refine r_ifne (pc := 66) (tgt := 80) C dX6_readsPerson_66 (by decide) h (fun h => ?_) (fun h => ?_)
      · refine r_aload_n (pc := 80) (i := 0) C dX6_readsPerson_80 rfl rfl ?_
        refine r_aload_n (pc := 81) (i := 0) C dX6_readsPerson_81 rfl rfl ?_
        refine r_getI (pc := 82) C fd_X6_166 rfl dX6_readsPerson_82 h (fun v13 h => ?_)
        refine r_iconst (pc := 85) (v := 1) C dX6_readsPerson_85 (by decide) ?_
        refine r_iadd (pc := 86) C dX6_readsPerson_86 ?_
        refine r_putI (pc := 87) C fd_X6_166 ft_X6_8 dX6_readsPerson_87 h (fun σ14 h => ?_)
        refine r_iconst (pc := 90) (v := 1) C dX6_readsPerson_90 (by decide) ?_
        exact r_zretL (pc := 91) C rfl dX6_readsPerson_91 (Or.inr rfl) h E
      · refine r_aload_n (pc := 69) (i := 0) C dX6_readsPerson_69 rfl rfl ?_
        refine r_bipush (pc := 70) (v := 7) C dX6_readsPerson_70 (by decide) ?_
        refine r_aload_n (pc := 72) (i := 0) C dX6_readsPerson_72 rfl rfl ?_
        refine r_getI (pc := 73) C fd_X6_166 rfl dX6_readsPerson_73 h (fun v15 h => ?_)
        refine r_callVI (pc := 76) (As := [.int 7, .int v15]) (st := []) C cs_X6_179_X6_wrongAt h (fun _ _ e => w_X6_wrongAt (Nat.le_refl 0) e) (fun _ _ e => t_X6_wrongAt e) (Nat.le_trans (Nat.le_of_ble_eq_true rfl) hd) (Nat.le_of_ble_eq_true rfl) dX6_readsPerson_76 (fun v17 σ16 h => ?_)
        exact r_zret (pc := 79) C rfl dX6_readsPerson_79 h E
    · refine r_ifeq (pc := 25) (tgt := 47) C dX6_readsPerson_25 (by decide) h (fun h => ?_) (fun h => ?_)
      · refine r_pick (lv' := [(0, rv B a0)]) [0] rfl ?_
        exact hk6 _ h
      · refine r_aload_n (pc := 28) (i := 0) C dX6_readsPerson_28 rfl rfl ?_
        refine r_getI (pc := 29) C fd_X6_283 rfl dX6_readsPerson_29 h (fun v18 h => ?_)
        refine r_bipush (pc := 32) (v := 30) C dX6_readsPerson_32 (by decide) ?_
        refine r_icmpne (pc := 34) (tgt := 47) C dX6_readsPerson_34 (by decide) h (fun h => ?_) (fun h => ?_)
        · refine r_pick (lv' := [(0, rv B a0)]) [0] rfl ?_
          exact hk6 _ h
        · refine r_aload_n (pc := 37) (i := 0) C dX6_readsPerson_37 rfl rfl ?_
          refine r_iconst (pc := 38) (v := 4) C dX6_readsPerson_38 (by decide) ?_
          refine r_aload_n (pc := 39) (i := 0) C dX6_readsPerson_39 rfl rfl ?_
          refine r_getI (pc := 40) C fd_X6_166 rfl dX6_readsPerson_40 h (fun v19 h => ?_)
          refine r_callVI (pc := 43) (As := [.int 4, .int v19]) (st := []) C cs_X6_179_X6_wrongAt h (fun _ _ e => w_X6_wrongAt (Nat.le_refl 0) e) (fun _ _ e => t_X6_wrongAt e) (Nat.le_trans (Nat.le_of_ble_eq_true rfl) hd) (Nat.le_of_ble_eq_true rfl) dX6_readsPerson_43 (fun v21 σ20 h => ?_)
          exact r_zret (pc := 46) C rfl dX6_readsPerson_46 h E
  · refine r_aload_n (pc := 14) (i := 0) C dX6_readsPerson_14 rfl rfl ?_
    refine r_iconst (pc := 15) (v := 1) C dX6_readsPerson_15 (by decide) ?_
    refine r_aload_n (pc := 16) (i := 0) C dX6_readsPerson_16 rfl rfl ?_
    refine r_getI (pc := 17) C fd_X6_166 rfl dX6_readsPerson_17 h (fun v22 h => ?_)
    refine r_callVI (pc := 20) (As := [.int 1, .int v22]) (st := []) C cs_X6_179_X6_wrongAt h (fun _ _ e => w_X6_wrongAt (Nat.le_refl 0) e) (fun _ _ e => t_X6_wrongAt e) (Nat.le_trans (Nat.le_of_ble_eq_true rfl) hd) (Nat.le_of_ble_eq_true rfl) dX6_readsPerson_20 (fun v24 σ23 h => ?_)
    exact r_zret (pc := 23) C rfl dX6_readsPerson_23 h E
theorem t_X6_readsPerson {F : Nat} {σ : MM} {a0 : Nat} {x1 : Int32} {r : Int32 × MM} (h : g_X6_readsPerson F σ a0 x1 = some r) : mT σ a0 = (5, 62) := by
  unfold g_X6_readsPerson at h
  exact (r_ck h).1
def g_X6_min (F : Nat) (σ : MM) (x0 : Int32) (x1 : Int32) : Option (Int32 × MM) := if x0 < x1 then (some (x0, σ)) else (some (x1, σ))
theorem w_X6_min {B F : Nat} {d : Nat} {σ : MM} {x0 : Int32} {x1 : Int32} {rf : Int32} {σf : MM} (hd : 0 ≤ d) (h : g_X6_min F σ x0 x1 = some (rf, σf)) : xMA B yX6_min cX6_min 2 (some .int) d 0 0 [.int x0, .int x1] σ (some (.int rf)) σf := by
  refine xMA.of (by decide +kernel) (Nat.le_of_ble_eq_true rfl) (cat_int (cat_int cat_nil)) (fun G C E => ?_)
  unfold g_X6_min at h
  refine r_iload_n (pc := 0) (i := 0) C dX6_min_0 rfl rfl ?_
  refine r_iload_n (pc := 1) (i := 1) C dX6_min_1 rfl rfl ?_
  refine r_icmpge (pc := 2) (tgt := 9) C dX6_min_2 (by decide) h (fun h => ?_) (fun h => ?_)
  · refine r_iload_n (pc := 9) (i := 1) C dX6_min_9 rfl rfl ?_
    exact r_iret (pc := 10) C rfl dX6_min_10 h E
  · refine r_iload_n (pc := 5) (i := 0) C dX6_min_5 rfl rfl ?_
    refine r_goto (pc := 6) (tgt := 10) C dX6_min_6 (by decide) ?_
    exact r_iret (pc := 10) C rfl dX6_min_10 h E
theorem yd_X6_readsPerson : xYd yX6_readsPerson 1 := ⟨by decide +kernel, by decide +kernel, by decide +kernel⟩
theorem cs_X6_286_X6_readsPerson : xCV RX6 286 yX6_readsPerson cX6_readsPerson 2 (some .boolean) 5 62 1 := ⟨by decide, by decide, _, rfl, yd_X6_readsPerson, Or.inl ⟨rfl, lw_V q1581 q1583 qs68 q122 q1584⟩⟩
theorem fd_X6_68 : xFg RX6 68 5 62 30 := ⟨_, rfl, rfl, by decide, by decide, in_X6, Or.inl q1295⟩
theorem ft_X6_30 : xFt 5 30 (.array .int) true := ⟨_, rfl, by decide +kernel, rfl, rfl⟩
theorem yd_X6_min : xYd yX6_min 2 := ⟨by decide +kernel, by decide +kernel, by decide +kernel⟩
theorem cs_X6_290_X6_min : xCS RX6 290 yX6_min cX6_min 2 (some .int) 2 := ⟨by decide, yd_X6_min, Or.inl (lw_S q1585 q1586 q122 q1587)⟩
def l_X6_readsLine_76 (K : Int32 → MM → Option (Int32 × MM)) (F : Nat) (a0 : Nat) (x1 : Int32) (x2 : Int32) (x3 : Int32) : Nat → Int32 → MM → Option (Int32 × MM)
  | 0, _, _ => none
  | f + 1, z4, σ => bq (g_X6_isDigit F σ a0) fun v16 σ15 => if v16 = 0 then (K z4 σ15) else ((gI σ15 a0 5 62 8).bind fun v17 => if v17 < (x3 + 2) then (bq (g_X6_here F σ15 a0) fun v19 σ18 => (gI σ18 a0 5 62 8).bind fun v20 => (pI σ18 a0 5 62 8 ((v20 + 1))).bind fun σ21 => l_X6_readsLine_76 K F a0 x1 x2 x3 f ((((10 * z4) + v19) - 48)) σ21) else (K z4 σ15))
def g_X6_readsLine (F : Nat) (σ : MM) (a0 : Nat) : Option (Int32 × MM) := if mT σ a0 = (5, 62) then (bq (g_X6_readsPerson F σ a0 1) fun v2 σ1 => if v2 = 0 then (some (0, σ1)) else ((gI σ1 a0 5 62 11).bind fun v3 => bq (g_X6_takes F σ1 a0 62) fun v5 σ4 => if v5 = 0 then (some (0, σ4)) else (bq (g_X6_readsPerson F σ4 a0 0) fun v7 σ6 => if v7 = 0 then (some (0, σ6)) else ((gI σ6 a0 5 62 11).bind fun v8 => if v3 = v8 then ((gI σ6 a0 5 62 8).bind fun v34 => bq (g_X6_wrongAt F σ6 a0 6 ((v34 - 1))) fun v36 σ35 => (rz v36).bind fun u => some (u, σ35)) else ((gI σ6 a0 5 62 8).bind fun v9 => bq (g_X6_isDigit F σ6 a0) fun v11 σ10 => jn (fun (w13 : Int32) (σ12 : MM) => l_X6_readsLine_76 (fun (r4_23 : Int32) (σ22 : MM) => if r4_23 = 0 then (bq (g_X6_wrongAt F σ22 a0 3 v9) fun v33 σ32 => (rz v33).bind fun u => some (u, σ32)) else ((gP σ22 a0 5 62 30).bind fun p24 => (gP σ22 a0 5 62 30).bind fun p25 => (aI σ22 p25 20 (((10 * v3) + v8))).bind fun v26 => bq (g_X6_min F σ22 99 ((v26 + r4_23))) fun v28 σ27 => (sI σ27 p24 (((10 * v3) + v8)) v28).bind fun σ29 => (gI σ29 a0 5 62 31).bind fun v30 => (pI σ29 a0 5 62 31 ((v30 + 1))).bind fun σ31 => some (1, σ31))) F a0 v3 v8 v9 F w13 σ12) (fun k14 => if v11 = 0 then (k14 1 σ10) else (k14 0 σ10))))))) else none
theorem wl_X6_readsLine_76 {B : Nat} {G : XG} {d : Nat} {rf : Int32} {σf : MM} (hd : 3 ≤ d) (C : xC B G yX6_readsLine cX6_readsLine 5 (some .boolean) d 0 0) (E : xEnd B G (some (.int rf)) σf 0 0) {K : Int32 → MM → Option (Int32 × MM)} {F : Nat} {a0 : Nat} {x1 : Int32} {x2 : Int32} {x3 : Int32} (hK : ∀ (q4 : Int32) (σ : MM), K q4 σ = some (rf, σf) → xV B G 0 0 σ 121 [(0, rv B a0), (1, .int x1), (2, .int x2), (3, .int x3), (4, .int q4)] []) : ∀ (f : Nat) (z4 : Int32) (σ : MM), l_X6_readsLine_76 K F a0 x1 x2 x3 f z4 σ = some (rf, σf) → xV B G 0 0 σ 76 [(0, rv B a0), (1, .int x1), (2, .int x2), (3, .int x3), (4, .int z4)] [] := by
  intro f
  induction f with
  | zero =>
    intro z4 σ h
    have h : none = some (rf, σf) := h
    cases h
  | succ f ih =>
    intro z4 σ h
    rw [l_X6_readsLine_76.eq_2] at h
    refine r_aload_n (pc := 76) (i := 0) C dX6_readsLine_76 rfl rfl ?_
    refine r_callVI (pc := 77) (As := []) (st := []) C cs_X6_185_X6_isDigit h (fun _ _ e => w_X6_isDigit (Nat.le_refl 1) e) (fun _ _ e => t_X6_isDigit e) (Nat.le_trans (Nat.le_of_ble_eq_true rfl) hd) (Nat.le_of_ble_eq_true rfl) dX6_readsLine_77 (fun v16 σ15 h => ?_)
    refine r_ifeq (pc := 80) (tgt := 121) C dX6_readsLine_80 (by decide) h (fun h => ?_) (fun h => ?_)
    · refine r_pick (lv' := [(0, rv B a0), (1, .int x1), (2, .int x2), (3, .int x3), (4, .int z4)]) [0, 1, 2, 3, 4] rfl ?_
      exact hK _ _ h
    · refine r_aload_n (pc := 83) (i := 0) C dX6_readsLine_83 rfl rfl ?_
      refine r_getI (pc := 84) C fd_X6_166 rfl dX6_readsLine_84 h (fun v17 h => ?_)
      refine r_iload_n (pc := 87) (i := 3) C dX6_readsLine_87 rfl rfl ?_
      refine r_iconst (pc := 88) (v := 2) C dX6_readsLine_88 (by decide) ?_
      refine r_iadd (pc := 89) C dX6_readsLine_89 ?_
      refine r_icmpge (pc := 90) (tgt := 121) C dX6_readsLine_90 (by decide) h (fun h => ?_) (fun h => ?_)
      · refine r_pick (lv' := [(0, rv B a0), (1, .int x1), (2, .int x2), (3, .int x3), (4, .int z4)]) [0, 1, 2, 3, 4] rfl ?_
        exact hK _ _ h
      · refine r_bipush (pc := 93) (v := 10) C dX6_readsLine_93 (by decide) ?_
        refine r_iload (pc := 95) (i := 4) C dX6_readsLine_95 rfl ?_
        refine r_imul (pc := 97) C dX6_readsLine_97 ?_
        refine r_aload_n (pc := 98) (i := 0) C dX6_readsLine_98 rfl rfl ?_
        refine r_callVI (pc := 99) (As := []) (st := [.int (10 * z4)]) C cs_X6_172_X6_here h (fun _ _ e => w_X6_here (Nat.le_refl 0) e) (fun _ _ e => t_X6_here e) (Nat.le_trans (Nat.le_of_ble_eq_true rfl) hd) (Nat.le_of_ble_eq_true rfl) dX6_readsLine_99 (fun v19 σ18 h => ?_)
        refine r_iadd (pc := 102) C dX6_readsLine_102 ?_
        refine r_bipush (pc := 103) (v := 48) C dX6_readsLine_103 (by decide) ?_
        refine r_isub (pc := 105) C dX6_readsLine_105 ?_
        refine r_istore (pc := 106) (i := 4) C dX6_readsLine_106 (by decide) ?_
        refine r_aload_n (pc := 108) (i := 0) C dX6_readsLine_108 rfl rfl ?_
        refine r_aload_n (pc := 109) (i := 0) C dX6_readsLine_109 rfl rfl ?_
        refine r_getI (pc := 110) C fd_X6_166 rfl dX6_readsLine_110 h (fun v20 h => ?_)
        refine r_iconst (pc := 113) (v := 1) C dX6_readsLine_113 (by decide) ?_
        refine r_iadd (pc := 114) C dX6_readsLine_114 ?_
        refine r_putI (pc := 115) C fd_X6_166 ft_X6_8 dX6_readsLine_115 h (fun σ21 h => ?_)
        refine r_goto (pc := 118) (tgt := 76) C dX6_readsLine_118 (by decide) ?_
        refine r_pick (lv' := [(0, rv B a0), (1, .int x1), (2, .int x2), (3, .int x3), (4, .int (((10 * z4) + v19) - 48))]) [0, 1, 2, 3, 4] rfl ?_
        exact ih _ _ h
theorem w_X6_readsLine {B F : Nat} {d : Nat} {σ : MM} {a0 : Nat} {rf : Int32} {σf : MM} (hd : 3 ≤ d) (h : g_X6_readsLine F σ a0 = some (rf, σf)) : xMA B yX6_readsLine cX6_readsLine 5 (some .boolean) d 0 0 [rv B a0] σ (some (.int rf)) σf := by
  refine xMA.of (by decide +kernel) (Nat.le_of_ble_eq_true rfl) (cat_rv cat_nil) (fun G C E => ?_)
  unfold g_X6_readsLine at h
  obtain ⟨-, h⟩ := r_ck h
  refine r_aload_n (pc := 0) (i := 0) C dX6_readsLine_0 rfl rfl ?_
  refine r_iconst (pc := 1) (v := 1) C dX6_readsLine_1 (by decide) ?_
  refine r_callVI (pc := 2) (As := [.int 1]) (st := []) C cs_X6_286_X6_readsPerson h (fun _ _ e => w_X6_readsPerson (Nat.le_refl 2) e) (fun _ _ e => t_X6_readsPerson e) (Nat.le_trans (Nat.le_of_ble_eq_true rfl) hd) (Nat.le_of_ble_eq_true rfl) dX6_readsLine_2 (fun v2 σ1 h => ?_)
  refine r_ifne (pc := 5) (tgt := 10) C dX6_readsLine_5 (by decide) h (fun h => ?_) (fun h => ?_)
  · refine r_aload_n (pc := 10) (i := 0) C dX6_readsLine_10 rfl rfl ?_
    refine r_getI (pc := 11) C fd_X6_182 rfl dX6_readsLine_11 h (fun v3 h => ?_)
    refine r_istore_n (pc := 14) (i := 1) C dX6_readsLine_14 rfl (by decide) ?_
    refine r_aload_n (pc := 15) (i := 0) C dX6_readsLine_15 rfl rfl ?_
    refine r_bipush (pc := 16) (v := 62) C dX6_readsLine_16 (by decide) ?_
    refine r_callVI (pc := 18) (As := [.int 62]) (st := []) C cs_X6_252_X6_takes h (fun _ _ e => w_X6_takes (Nat.le_refl 1) e) (fun _ _ e => t_X6_takes e) (Nat.le_trans (Nat.le_of_ble_eq_true rfl) hd) (Nat.le_of_ble_eq_true rfl) dX6_readsLine_18 (fun v5 σ4 h => ?_)
    refine r_ifeq (pc := 21) (tgt := 32) C dX6_readsLine_21 (by decide) h (fun h => ?_) (fun h => ?_)
    · refine r_iconst (pc := 32) (v := 0) C dX6_readsLine_32 (by decide) ?_
      exact r_zretL (pc := 33) C rfl dX6_readsLine_33 (Or.inl rfl) h E
    · refine r_aload_n (pc := 24) (i := 0) C dX6_readsLine_24 rfl rfl ?_
      refine r_iconst (pc := 25) (v := 0) C dX6_readsLine_25 (by decide) ?_
      refine r_callVI (pc := 26) (As := [.int 0]) (st := []) C cs_X6_286_X6_readsPerson h (fun _ _ e => w_X6_readsPerson (Nat.le_refl 2) e) (fun _ _ e => t_X6_readsPerson e) (Nat.le_trans (Nat.le_of_ble_eq_true rfl) hd) (Nat.le_of_ble_eq_true rfl) dX6_readsLine_26 (fun v7 σ6 h => ?_)
      refine r_ifne (pc := 29) (tgt := 34) C dX6_readsLine_29 (by decide) h (fun h => ?_) (fun h => ?_)
      · refine r_aload_n (pc := 34) (i := 0) C dX6_readsLine_34 rfl rfl ?_
        refine r_getI (pc := 35) C fd_X6_182 rfl dX6_readsLine_35 h (fun v8 h => ?_)
        refine r_istore_n (pc := 38) (i := 2) C dX6_readsLine_38 rfl (by decide) ?_
        refine r_iload_n (pc := 39) (i := 1) C dX6_readsLine_39 rfl rfl ?_
        refine r_iload_n (pc := 40) (i := 2) C dX6_readsLine_40 rfl rfl ?_
        refine r_icmpne (pc := 41) (tgt := 57) C dX6_readsLine_41 (by decide) h (fun h => ?_) (fun h => ?_)
        · refine r_aload_n (pc := 57) (i := 0) C dX6_readsLine_57 rfl rfl ?_
          refine r_getI (pc := 58) C fd_X6_166 rfl dX6_readsLine_58 h (fun v9 h => ?_)
          refine r_istore_n (pc := 61) (i := 3) C dX6_readsLine_61 rfl (by decide) ?_
          refine r_aload_n (pc := 62) (i := 0) C dX6_readsLine_62 rfl rfl ?_
          refine r_callVI (pc := 63) (As := []) (st := []) C cs_X6_185_X6_isDigit h (fun _ _ e => w_X6_isDigit (Nat.le_refl 1) e) (fun _ _ e => t_X6_isDigit e) (Nat.le_trans (Nat.le_of_ble_eq_true rfl) hd) (Nat.le_of_ble_eq_true rfl) dX6_readsLine_63 (fun v11 σ10 h => ?_)
          refine r_jn (fun k9 => ∀ (w13 : Int32) (σ12 : MM), k9 w13 σ12 = some (rf, σf) → xV B G 0 0 σ12 74 [(0, rv B a0), (1, .int v3), (2, .int v8), (3, .int v9)] [.int w13]) h (fun w13 σ12 h => ?_) (fun k14 hk14 h => ?_)
          · refine r_istore (pc := 74) (i := 4) C dX6_readsLine_74 (by decide) ?_
            refine r_pick (lv' := [(0, rv B a0), (1, .int v3), (2, .int v8), (3, .int v9), (4, .int w13)]) [0, 1, 2, 3, 4] rfl ?_
            refine wl_X6_readsLine_76 hd C E (fun r4_23 σ22 h => ?_) _ _ _ h
            refine r_iload (pc := 121) (i := 4) C dX6_readsLine_121 rfl ?_
            refine r_ifne (pc := 123) (tgt := 133) C dX6_readsLine_123 (by decide) h (fun h => ?_) (fun h => ?_)
            · refine r_aload_n (pc := 133) (i := 0) C dX6_readsLine_133 rfl rfl ?_
              refine r_getP (pc := 134) C fd_X6_68 rfl dX6_readsLine_134 h (fun p24 h => ?_)
              refine r_bipush (pc := 137) (v := 10) C dX6_readsLine_137 (by decide) ?_
              refine r_iload_n (pc := 139) (i := 1) C dX6_readsLine_139 rfl rfl ?_
              refine r_imul (pc := 140) C dX6_readsLine_140 ?_
              refine r_iload_n (pc := 141) (i := 2) C dX6_readsLine_141 rfl rfl ?_
              refine r_iadd (pc := 142) C dX6_readsLine_142 ?_
              refine r_bipush (pc := 143) (v := 99) C dX6_readsLine_143 (by decide) ?_
              refine r_aload_n (pc := 145) (i := 0) C dX6_readsLine_145 rfl rfl ?_
              refine r_getP (pc := 146) C fd_X6_68 rfl dX6_readsLine_146 h (fun p25 h => ?_)
              refine r_bipush (pc := 149) (v := 10) C dX6_readsLine_149 (by decide) ?_
              refine r_iload_n (pc := 151) (i := 1) C dX6_readsLine_151 rfl rfl ?_
              refine r_imul (pc := 152) C dX6_readsLine_152 ?_
              refine r_iload_n (pc := 153) (i := 2) C dX6_readsLine_153 rfl rfl ?_
              refine r_iadd (pc := 154) C dX6_readsLine_154 ?_
              refine r_iald (pc := 155) C dX6_readsLine_155 h (fun v26 h => ?_)
              refine r_iload (pc := 156) (i := 4) C dX6_readsLine_156 rfl ?_
              refine r_iadd (pc := 158) C dX6_readsLine_158 ?_
              refine r_callSI (pc := 159) (As := [.int 99, .int (v26 + r4_23)]) (st := [.int ((10 * v3) + v8), rv B p24]) C cs_X6_290_X6_min h (fun _ _ e => w_X6_min (Nat.le_refl 0) e) (Nat.le_trans (Nat.le_of_ble_eq_true rfl) hd) (Nat.le_of_ble_eq_true rfl) dX6_readsLine_159 (fun v28 σ27 h => ?_)
              refine r_iast (pc := 162) C dX6_readsLine_162 h (fun σ29 h => ?_)
              refine r_aload_n (pc := 163) (i := 0) C dX6_readsLine_163 rfl rfl ?_
              refine r_aload_n (pc := 164) (i := 0) C dX6_readsLine_164 rfl rfl ?_
              refine r_getI (pc := 165) C fd_X6_283 rfl dX6_readsLine_165 h (fun v30 h => ?_)
              refine r_iconst (pc := 168) (v := 1) C dX6_readsLine_168 (by decide) ?_
              refine r_iadd (pc := 169) C dX6_readsLine_169 ?_
              refine r_putI (pc := 170) C fd_X6_283 ft_X6_31 dX6_readsLine_170 h (fun σ31 h => ?_)
              refine r_iconst (pc := 173) (v := 1) C dX6_readsLine_173 (by decide) ?_
              exact r_zretL (pc := 174) C rfl dX6_readsLine_174 (Or.inr rfl) h E
            · refine r_aload_n (pc := 126) (i := 0) C dX6_readsLine_126 rfl rfl ?_
              refine r_iconst (pc := 127) (v := 3) C dX6_readsLine_127 (by decide) ?_
              refine r_iload_n (pc := 128) (i := 3) C dX6_readsLine_128 rfl rfl ?_
              refine r_callVI (pc := 129) (As := [.int 3, .int v9]) (st := []) C cs_X6_179_X6_wrongAt h (fun _ _ e => w_X6_wrongAt (Nat.le_refl 0) e) (fun _ _ e => t_X6_wrongAt e) (Nat.le_trans (Nat.le_of_ble_eq_true rfl) hd) (Nat.le_of_ble_eq_true rfl) dX6_readsLine_129 (fun v33 σ32 h => ?_)
              exact r_zret (pc := 132) C rfl dX6_readsLine_132 h E
          · refine r_ifeq (pc := 66) (tgt := 73) C dX6_readsLine_66 (by decide) h (fun h => ?_) (fun h => ?_)
            · refine r_iconst (pc := 73) (v := 1) C dX6_readsLine_73 (by decide) ?_
              refine r_pick (lv' := [(0, rv B a0), (1, .int v3), (2, .int v8), (3, .int v9)]) [0, 1, 2, 3] rfl ?_
              exact hk14 _ _ h
            · refine r_iconst (pc := 69) (v := 0) C dX6_readsLine_69 (by decide) ?_
              refine r_goto (pc := 70) (tgt := 74) C dX6_readsLine_70 (by decide) ?_
              refine r_pick (lv' := [(0, rv B a0), (1, .int v3), (2, .int v8), (3, .int v9)]) [0, 1, 2, 3] rfl ?_
              exact hk14 _ _ h
        · refine r_aload_n (pc := 44) (i := 0) C dX6_readsLine_44 rfl rfl ?_
          refine r_bipush (pc := 45) (v := 6) C dX6_readsLine_45 (by decide) ?_
          refine r_aload_n (pc := 47) (i := 0) C dX6_readsLine_47 rfl rfl ?_
          refine r_getI (pc := 48) C fd_X6_166 rfl dX6_readsLine_48 h (fun v34 h => ?_)
          refine r_iconst (pc := 51) (v := 1) C dX6_readsLine_51 (by decide) ?_
          refine r_isub (pc := 52) C dX6_readsLine_52 ?_
          refine r_callVI (pc := 53) (As := [.int 6, .int (v34 - 1)]) (st := []) C cs_X6_179_X6_wrongAt h (fun _ _ e => w_X6_wrongAt (Nat.le_refl 0) e) (fun _ _ e => t_X6_wrongAt e) (Nat.le_trans (Nat.le_of_ble_eq_true rfl) hd) (Nat.le_of_ble_eq_true rfl) dX6_readsLine_53 (fun v36 σ35 h => ?_)
          exact r_zret (pc := 56) C rfl dX6_readsLine_56 h E
      · refine r_iconst (pc := 32) (v := 0) C dX6_readsLine_32 (by decide) ?_
        exact r_zretL (pc := 33) C rfl dX6_readsLine_33 (Or.inl rfl) h E
  · refine r_iconst (pc := 8) (v := 0) C dX6_readsLine_8 (by decide) ?_
    exact r_zretL (pc := 9) C rfl dX6_readsLine_9 (Or.inl rfl) h E
theorem t_X6_readsLine {F : Nat} {σ : MM} {a0 : Nat} {r : Int32 × MM} (h : g_X6_readsLine F σ a0 = some r) : mT σ a0 = (5, 62) := by
  unfold g_X6_readsLine at h
  exact (r_ck h).1
def g_X6_debtOf (F : Nat) (σ : MM) (a0 : Nat) (x1 : Int32) (x2 : Int32) : Option (Int32 × MM) := if mT σ a0 = (5, 62) then ((gP σ a0 5 62 0).bind fun p1 => (aI σ p1 20 (((0 + (10 * x1)) + x2))).bind fun v2 => some (v2, σ)) else none
theorem w_X6_debtOf {B F : Nat} {d : Nat} {σ : MM} {a0 : Nat} {x1 : Int32} {x2 : Int32} {rf : Int32} {σf : MM} (hd : 0 ≤ d) (h : g_X6_debtOf F σ a0 x1 x2 = some (rf, σf)) : xMA B yX6_debtOf cX6_debtOf 3 (some .int) d 0 0 [rv B a0, .int x1, .int x2] σ (some (.int rf)) σf := by
  refine xMA.of (by decide +kernel) (Nat.le_of_ble_eq_true rfl) (cat_rv (cat_int (cat_int cat_nil))) (fun G C E => ?_)
  unfold g_X6_debtOf at h
  obtain ⟨-, h⟩ := r_ck h
  refine r_aload_n (pc := 0) (i := 0) C dX6_debtOf_0 rfl rfl ?_
  refine r_getP (pc := 1) C fd_X6_7 rfl dX6_debtOf_1 h (fun p1 h => ?_)
  refine r_iconst (pc := 4) (v := 0) C dX6_debtOf_4 (by decide) ?_
  refine r_bipush (pc := 5) (v := 10) C dX6_debtOf_5 (by decide) ?_
  refine r_iload_n (pc := 7) (i := 1) C dX6_debtOf_7 rfl rfl ?_
  refine r_imul (pc := 8) C dX6_debtOf_8 ?_
  refine r_iadd (pc := 9) C dX6_debtOf_9 ?_
  refine r_iload_n (pc := 10) (i := 2) C dX6_debtOf_10 rfl rfl ?_
  refine r_iadd (pc := 11) C dX6_debtOf_11 ?_
  refine r_iald (pc := 12) C dX6_debtOf_12 h (fun v2 h => ?_)
  exact r_iret (pc := 13) C rfl dX6_debtOf_13 h E
theorem t_X6_debtOf {F : Nat} {σ : MM} {a0 : Nat} {x1 : Int32} {x2 : Int32} {r : Int32 × MM} (h : g_X6_debtOf F σ a0 x1 x2 = some r) : mT σ a0 = (5, 62) := by
  unfold g_X6_debtOf at h
  exact (r_ck h).1
theorem yd_X6_debtOf : xYd yX6_debtOf 2 := ⟨by decide +kernel, by decide +kernel, by decide +kernel⟩
theorem cs_X6_147_X6_debtOf : xCV RX6 147 yX6_debtOf cX6_debtOf 3 (some .int) 5 62 2 := ⟨by decide, by decide, _, rfl, yd_X6_debtOf, Or.inl ⟨rfl, lw_V q1596 q1598 qs71 q122 q1599⟩⟩
def l_X6_owesAll_4 (K : Int32 → MM → Option (Int32 × MM)) (F : Nat) (a0 : Nat) (x1 : Int32) : Nat → Int32 → Int32 → MM → Option (Int32 × MM)
  | 0, _, _, _ => none
  | f + 1, z2, z3, σ => if z3 < 10 then (bq (g_X6_debtOf F σ a0 x1 z3) fun v2 σ1 => l_X6_owesAll_4 K F a0 x1 f ((z2 + v2)) ((z3 + 1)) σ1) else (K z2 σ)
def g_X6_owesAll (F : Nat) (σ : MM) (a0 : Nat) (x1 : Int32) : Option (Int32 × MM) := if mT σ a0 = (5, 62) then (l_X6_owesAll_4 (fun (r2_4 : Int32) (σ3 : MM) => some (r2_4, σ3)) F a0 x1 F 0 0 σ) else none
theorem wl_X6_owesAll_4 {B : Nat} {G : XG} {d : Nat} {rf : Int32} {σf : MM} (hd : 1 ≤ d) (C : xC B G yX6_owesAll cX6_owesAll 4 (some .int) d 0 0) (E : xEnd B G (some (.int rf)) σf 0 0) {K : Int32 → MM → Option (Int32 × MM)} {F : Nat} {a0 : Nat} {x1 : Int32} (hK : ∀ (q2 : Int32) (σ : MM), K q2 σ = some (rf, σf) → xV B G 0 0 σ 25 [(2, .int q2)] []) : ∀ (f : Nat) (z2 : Int32) (z3 : Int32) (σ : MM), l_X6_owesAll_4 K F a0 x1 f z2 z3 σ = some (rf, σf) → xV B G 0 0 σ 4 [(0, rv B a0), (1, .int x1), (2, .int z2), (3, .int z3)] [] := by
  intro f
  induction f with
  | zero =>
    intro z2 z3 σ h
    have h : none = some (rf, σf) := h
    cases h
  | succ f ih =>
    intro z2 z3 σ h
    rw [l_X6_owesAll_4.eq_2] at h
    refine r_iload_n (pc := 4) (i := 3) C dX6_owesAll_4 rfl rfl ?_
    refine r_bipush (pc := 5) (v := 10) C dX6_owesAll_5 (by decide) ?_
    refine r_icmpge (pc := 7) (tgt := 25) C dX6_owesAll_7 (by decide) h (fun h => ?_) (fun h => ?_)
    · refine r_pick (lv' := [(2, .int z2)]) [2] rfl ?_
      exact hK _ _ h
    · refine r_iload_n (pc := 10) (i := 2) C dX6_owesAll_10 rfl rfl ?_
      refine r_aload_n (pc := 11) (i := 0) C dX6_owesAll_11 rfl rfl ?_
      refine r_iload_n (pc := 12) (i := 1) C dX6_owesAll_12 rfl rfl ?_
      refine r_iload_n (pc := 13) (i := 3) C dX6_owesAll_13 rfl rfl ?_
      refine r_callVI (pc := 14) (As := [.int x1, .int z3]) (st := [.int z2]) C cs_X6_147_X6_debtOf h (fun _ _ e => w_X6_debtOf (Nat.le_refl 0) e) (fun _ _ e => t_X6_debtOf e) (Nat.le_trans (Nat.le_of_ble_eq_true rfl) hd) (Nat.le_of_ble_eq_true rfl) dX6_owesAll_14 (fun v2 σ1 h => ?_)
      refine r_iadd (pc := 17) C dX6_owesAll_17 ?_
      refine r_istore_n (pc := 18) (i := 2) C dX6_owesAll_18 rfl (by decide) ?_
      refine r_iinc (pc := 19) (i := 3) (v := (z3 + 1)) C dX6_owesAll_19 rfl rfl (by decide) ?_
      refine r_goto (pc := 22) (tgt := 4) C dX6_owesAll_22 (by decide) ?_
      refine r_pick (lv' := [(0, rv B a0), (1, .int x1), (2, .int (z2 + v2)), (3, .int (z3 + 1))]) [0, 1, 2, 3] rfl ?_
      exact ih _ _ _ h
theorem w_X6_owesAll {B F : Nat} {d : Nat} {σ : MM} {a0 : Nat} {x1 : Int32} {rf : Int32} {σf : MM} (hd : 1 ≤ d) (h : g_X6_owesAll F σ a0 x1 = some (rf, σf)) : xMA B yX6_owesAll cX6_owesAll 4 (some .int) d 0 0 [rv B a0, .int x1] σ (some (.int rf)) σf := by
  refine xMA.of (by decide +kernel) (Nat.le_of_ble_eq_true rfl) (cat_rv (cat_int cat_nil)) (fun G C E => ?_)
  unfold g_X6_owesAll at h
  obtain ⟨-, h⟩ := r_ck h
  refine r_iconst (pc := 0) (v := 0) C dX6_owesAll_0 (by decide) ?_
  refine r_istore_n (pc := 1) (i := 2) C dX6_owesAll_1 rfl (by decide) ?_
  refine r_iconst (pc := 2) (v := 0) C dX6_owesAll_2 (by decide) ?_
  refine r_istore_n (pc := 3) (i := 3) C dX6_owesAll_3 rfl (by decide) ?_
  refine r_pick (lv' := [(0, rv B a0), (1, .int x1), (2, .int 0), (3, .int 0)]) [0, 1, 2, 3] rfl ?_
  refine wl_X6_owesAll_4 hd C E (fun r2_4 σ3 h => ?_) _ _ _ _ h
  refine r_iload_n (pc := 25) (i := 2) C dX6_owesAll_25 rfl rfl ?_
  exact r_iret (pc := 26) C rfl dX6_owesAll_26 h E
theorem t_X6_owesAll {F : Nat} {σ : MM} {a0 : Nat} {x1 : Int32} {r : Int32 × MM} (h : g_X6_owesAll F σ a0 x1 = some r) : mT σ a0 = (5, 62) := by
  unfold g_X6_owesAll at h
  exact (r_ck h).1
theorem yd_X6_owesAll : xYd yX6_owesAll 1 := ⟨by decide +kernel, by decide +kernel, by decide +kernel⟩
theorem cs_X6_150_X6_owesAll : xCV RX6 150 yX6_owesAll cX6_owesAll 4 (some .int) 5 62 1 := ⟨by decide, by decide, _, rfl, yd_X6_owesAll, Or.inl ⟨rfl, lw_V q1592 q1594 qs70 q122 q1595⟩⟩
def l_X6_owedInAll_4 (K : Int32 → MM → Option (Int32 × MM)) (F : Nat) (a0 : Nat) : Nat → Int32 → Int32 → MM → Option (Int32 × MM)
  | 0, _, _, _ => none
  | f + 1, z1, z2, σ => if z2 < 10 then (bq (g_X6_owesAll F σ a0 z2) fun v2 σ1 => l_X6_owedInAll_4 K F a0 f ((z1 + v2)) ((z2 + 1)) σ1) else (K z1 σ)
def g_X6_owedInAll (F : Nat) (σ : MM) (a0 : Nat) : Option (Int32 × MM) := if mT σ a0 = (5, 62) then (l_X6_owedInAll_4 (fun (r1_4 : Int32) (σ3 : MM) => some (r1_4, σ3)) F a0 F 0 0 σ) else none
theorem wl_X6_owedInAll_4 {B : Nat} {G : XG} {d : Nat} {rf : Int32} {σf : MM} (hd : 2 ≤ d) (C : xC B G yX6_owedInAll cX6_owedInAll 3 (some .int) d 0 0) (E : xEnd B G (some (.int rf)) σf 0 0) {K : Int32 → MM → Option (Int32 × MM)} {F : Nat} {a0 : Nat} (hK : ∀ (q1 : Int32) (σ : MM), K q1 σ = some (rf, σf) → xV B G 0 0 σ 24 [(1, .int q1)] []) : ∀ (f : Nat) (z1 : Int32) (z2 : Int32) (σ : MM), l_X6_owedInAll_4 K F a0 f z1 z2 σ = some (rf, σf) → xV B G 0 0 σ 4 [(0, rv B a0), (1, .int z1), (2, .int z2)] [] := by
  intro f
  induction f with
  | zero =>
    intro z1 z2 σ h
    have h : none = some (rf, σf) := h
    cases h
  | succ f ih =>
    intro z1 z2 σ h
    rw [l_X6_owedInAll_4.eq_2] at h
    refine r_iload_n (pc := 4) (i := 2) C dX6_owedInAll_4 rfl rfl ?_
    refine r_bipush (pc := 5) (v := 10) C dX6_owedInAll_5 (by decide) ?_
    refine r_icmpge (pc := 7) (tgt := 24) C dX6_owedInAll_7 (by decide) h (fun h => ?_) (fun h => ?_)
    · refine r_pick (lv' := [(1, .int z1)]) [1] rfl ?_
      exact hK _ _ h
    · refine r_iload_n (pc := 10) (i := 1) C dX6_owedInAll_10 rfl rfl ?_
      refine r_aload_n (pc := 11) (i := 0) C dX6_owedInAll_11 rfl rfl ?_
      refine r_iload_n (pc := 12) (i := 2) C dX6_owedInAll_12 rfl rfl ?_
      refine r_callVI (pc := 13) (As := [.int z2]) (st := [.int z1]) C cs_X6_150_X6_owesAll h (fun _ _ e => w_X6_owesAll (Nat.le_refl 1) e) (fun _ _ e => t_X6_owesAll e) (Nat.le_trans (Nat.le_of_ble_eq_true rfl) hd) (Nat.le_of_ble_eq_true rfl) dX6_owedInAll_13 (fun v2 σ1 h => ?_)
      refine r_iadd (pc := 16) C dX6_owedInAll_16 ?_
      refine r_istore_n (pc := 17) (i := 1) C dX6_owedInAll_17 rfl (by decide) ?_
      refine r_iinc (pc := 18) (i := 2) (v := (z2 + 1)) C dX6_owedInAll_18 rfl rfl (by decide) ?_
      refine r_goto (pc := 21) (tgt := 4) C dX6_owedInAll_21 (by decide) ?_
      refine r_pick (lv' := [(0, rv B a0), (1, .int (z1 + v2)), (2, .int (z2 + 1))]) [0, 1, 2] rfl ?_
      exact ih _ _ _ h
theorem w_X6_owedInAll {B F : Nat} {d : Nat} {σ : MM} {a0 : Nat} {rf : Int32} {σf : MM} (hd : 2 ≤ d) (h : g_X6_owedInAll F σ a0 = some (rf, σf)) : xMA B yX6_owedInAll cX6_owedInAll 3 (some .int) d 0 0 [rv B a0] σ (some (.int rf)) σf := by
  refine xMA.of (by decide +kernel) (Nat.le_of_ble_eq_true rfl) (cat_rv cat_nil) (fun G C E => ?_)
  unfold g_X6_owedInAll at h
  obtain ⟨-, h⟩ := r_ck h
  refine r_iconst (pc := 0) (v := 0) C dX6_owedInAll_0 (by decide) ?_
  refine r_istore_n (pc := 1) (i := 1) C dX6_owedInAll_1 rfl (by decide) ?_
  refine r_iconst (pc := 2) (v := 0) C dX6_owedInAll_2 (by decide) ?_
  refine r_istore_n (pc := 3) (i := 2) C dX6_owedInAll_3 rfl (by decide) ?_
  refine r_pick (lv' := [(0, rv B a0), (1, .int 0), (2, .int 0)]) [0, 1, 2] rfl ?_
  refine wl_X6_owedInAll_4 hd C E (fun r1_4 σ3 h => ?_) _ _ _ _ h
  refine r_iload_n (pc := 24) (i := 1) C dX6_owedInAll_24 rfl rfl ?_
  exact r_iret (pc := 25) C rfl dX6_owedInAll_25 h E
theorem t_X6_owedInAll {F : Nat} {σ : MM} {a0 : Nat} {r : Int32 × MM} (h : g_X6_owedInAll F σ a0 = some r) : mT σ a0 = (5, 62) := by
  unfold g_X6_owedInAll at h
  exact (r_ck h).1
theorem yd_X6_readsLine : xYd yX6_readsLine 0 := ⟨by decide +kernel, by decide +kernel, by decide +kernel⟩
theorem cs_X6_293_X6_readsLine : xCV RX6 293 yX6_readsLine cX6_readsLine 5 (some .boolean) 5 62 0 := ⟨by decide, by decide, _, rfl, yd_X6_readsLine, Or.inl ⟨rfl, lw_V q1577 q1579 qs67 q122 q1580⟩⟩
theorem yd_X6_owedInAll : xYd yX6_owedInAll 0 := ⟨by decide +kernel, by decide +kernel, by decide +kernel⟩
theorem cs_X6_296_X6_owedInAll : xCV RX6 296 yX6_owedInAll cX6_owedInAll 3 (some .int) 5 62 0 := ⟨by decide, by decide, _, rfl, yd_X6_owedInAll, Or.inl ⟨rfl, lw_V q1588 q1590 qs69 q122 q1591⟩⟩
def l_X6_debts_38 (K : MM → Option (Int32 × MM)) (F : Nat) (a0 : Nat) : Nat → Int32 → MM → Option (Int32 × MM)
  | 0, _, _ => none
  | f + 1, z2, σ => if z2 < 100 then ((gP σ a0 5 62 30).bind fun p7 => (sI σ p7 z2 0).bind fun σ8 => l_X6_debts_38 K F a0 f ((z2 + 1)) σ8) else (K σ)
def l_X6_debts_62 (K : Int32 → MM → Option (Int32 × MM)) (F : Nat) (a0 : Nat) : Nat → Int32 → MM → Option (Int32 × MM)
  | 0, _, _ => none
  | f + 1, z2, σ => if z2 = 0 then (K z2 σ) else ((gI σ a0 5 62 8).bind fun v12 => (gI σ a0 5 62 9).bind fun v13 => if v12 < v13 then (bq (g_X6_takes F σ a0 59) fun v15 σ14 => if v15 = 0 then (l_X6_debts_62 K F a0 f 0 σ14) else (bq (g_X6_readsLine F σ14 a0) fun v17 σ16 => if v17 = 0 then (l_X6_debts_62 K F a0 f 0 σ16) else (l_X6_debts_62 K F a0 f 1 σ16))) else (K z2 σ))
def l_X6_debts_118 (K : MM → Option (Int32 × MM)) (F : Nat) (a0 : Nat) : Nat → Int32 → MM → Option (Int32 × MM)
  | 0, _, _ => none
  | f + 1, z3, σ => if z3 < 100 then ((gP σ a0 5 62 0).bind fun p21 => (gP σ a0 5 62 30).bind fun p22 => (aI σ p22 20 z3).bind fun v23 => (sI σ p21 ((0 + z3)) v23).bind fun σ24 => l_X6_debts_118 K F a0 f ((z3 + 1)) σ24) else (K σ)
def g_X6_debts (F : Nat) (σ : MM) (a0 : Nat) (x1 : Int32) : Option (Int32 × MM) := if mT σ a0 = (5, 62) then (bq (g_X6_in F σ x1 1 160) fun v2 σ1 => if v2 = 0 then (some ((-1), σ1)) else ((gI σ1 a0 5 62 7).bind fun v3 => if v3 < x1 then (some ((-1), σ1)) else ((pI σ1 a0 5 62 8 0).bind fun σ4 => (pI σ4 a0 5 62 9 x1).bind fun σ5 => (pI σ5 a0 5 62 31 0).bind fun σ6 => l_X6_debts_38 (fun (σ9 : MM) => bq (g_X6_readsLine F σ9 a0) fun v11 σ10 => l_X6_debts_62 (fun (r2_19 : Int32) (σ18 : MM) => (pI σ18 a0 5 62 7 0).bind fun σ20 => if r2_19 = 0 then ((gI σ20 a0 5 62 10).bind fun v28 => some (v28, σ20)) else (l_X6_debts_118 (fun (σ25 : MM) => bq (g_X6_owedInAll F σ25 a0) fun v27 σ26 => some (v27, σ26)) F a0 F 0 σ20)) F a0 F v11 σ10) F a0 F 0 σ6))) else none
theorem wl_X6_debts_38 {B : Nat} {G : XG} {d : Nat} {rf : Int32} {σf : MM} (hd : 4 ≤ d) (C : xC B G yX6_debts cX6_debts 4 (some .int) d 0 0) (E : xEnd B G (some (.int rf)) σf 0 0) {K : MM → Option (Int32 × MM)} {F : Nat} {a0 : Nat} (hK : ∀ (σ : MM), K σ = some (rf, σf) → xV B G 0 0 σ 57 [(0, rv B a0)] []) : ∀ (f : Nat) (z2 : Int32) (σ : MM), l_X6_debts_38 K F a0 f z2 σ = some (rf, σf) → xV B G 0 0 σ 38 [(0, rv B a0), (2, .int z2)] [] := by
  intro f
  induction f with
  | zero =>
    intro z2 σ h
    have h : none = some (rf, σf) := h
    cases h
  | succ f ih =>
    intro z2 σ h
    rw [l_X6_debts_38.eq_2] at h
    refine r_iload_n (pc := 38) (i := 2) C dX6_debts_38 rfl rfl ?_
    refine r_bipush (pc := 39) (v := 100) C dX6_debts_39 (by decide) ?_
    refine r_icmpge (pc := 41) (tgt := 57) C dX6_debts_41 (by decide) h (fun h => ?_) (fun h => ?_)
    · refine r_pick (lv' := [(0, rv B a0)]) [0] rfl ?_
      exact hK _ h
    · refine r_aload_n (pc := 44) (i := 0) C dX6_debts_44 rfl rfl ?_
      refine r_getP (pc := 45) C fd_X6_68 rfl dX6_debts_45 h (fun p7 h => ?_)
      refine r_iload_n (pc := 48) (i := 2) C dX6_debts_48 rfl rfl ?_
      refine r_iconst (pc := 49) (v := 0) C dX6_debts_49 (by decide) ?_
      refine r_iast (pc := 50) C dX6_debts_50 h (fun σ8 h => ?_)
      refine r_iinc (pc := 51) (i := 2) (v := (z2 + 1)) C dX6_debts_51 rfl rfl (by decide) ?_
      refine r_goto (pc := 54) (tgt := 38) C dX6_debts_54 (by decide) ?_
      refine r_pick (lv' := [(0, rv B a0), (2, .int (z2 + 1))]) [0, 2] rfl ?_
      exact ih _ _ h
theorem wl_X6_debts_62 {B : Nat} {G : XG} {d : Nat} {rf : Int32} {σf : MM} (hd : 4 ≤ d) (C : xC B G yX6_debts cX6_debts 4 (some .int) d 0 0) (E : xEnd B G (some (.int rf)) σf 0 0) {K : Int32 → MM → Option (Int32 × MM)} {F : Nat} {a0 : Nat} (hK : ∀ (q2 : Int32) (σ : MM), K q2 σ = some (rf, σf) → xV B G 0 0 σ 102 [(0, rv B a0), (2, .int q2)] []) : ∀ (f : Nat) (z2 : Int32) (σ : MM), l_X6_debts_62 K F a0 f z2 σ = some (rf, σf) → xV B G 0 0 σ 62 [(0, rv B a0), (2, .int z2)] [] := by
  intro f
  induction f with
  | zero =>
    intro z2 σ h
    have h : none = some (rf, σf) := h
    cases h
  | succ f ih =>
    intro z2 σ h
    rw [l_X6_debts_62.eq_2] at h
    refine r_iload_n (pc := 62) (i := 2) C dX6_debts_62 rfl rfl ?_
    refine r_ifeq (pc := 63) (tgt := 102) C dX6_debts_63 (by decide) h (fun h => ?_) (fun h => ?_)
    · refine r_pick (lv' := [(0, rv B a0), (2, .int z2)]) [0, 2] rfl ?_
      exact hK _ _ h
    · refine r_aload_n (pc := 66) (i := 0) C dX6_debts_66 rfl rfl ?_
      refine r_getI (pc := 67) C fd_X6_166 rfl dX6_debts_67 h (fun v12 h => ?_)
      refine r_aload_n (pc := 70) (i := 0) C dX6_debts_70 rfl rfl ?_
      refine r_getI (pc := 71) C fd_X6_169 rfl dX6_debts_71 h (fun v13 h => ?_)
      refine r_icmpge (pc := 74) (tgt := 102) C dX6_debts_74 (by decide) h (fun h => ?_) (fun h => ?_)
      · refine r_pick (lv' := [(0, rv B a0), (2, .int z2)]) [0, 2] rfl ?_
        exact hK _ _ h
      · refine r_aload_n (pc := 77) (i := 0) C dX6_debts_77 rfl rfl ?_
        refine r_bipush (pc := 78) (v := 59) C dX6_debts_78 (by decide) ?_
        refine r_callVI (pc := 80) (As := [.int 59]) (st := []) C cs_X6_252_X6_takes h (fun _ _ e => w_X6_takes (Nat.le_refl 1) e) (fun _ _ e => t_X6_takes e) (Nat.le_trans (Nat.le_of_ble_eq_true rfl) hd) (Nat.le_of_ble_eq_true rfl) dX6_debts_80 (fun v15 σ14 h => ?_)
        refine r_ifeq (pc := 83) (tgt := 97) C dX6_debts_83 (by decide) h (fun h => ?_) (fun h => ?_)
        · refine r_iconst (pc := 97) (v := 0) C dX6_debts_97 (by decide) ?_
          refine r_istore_n (pc := 98) (i := 2) C dX6_debts_98 rfl (by decide) ?_
          refine r_goto (pc := 99) (tgt := 62) C dX6_debts_99 (by decide) ?_
          refine r_pick (lv' := [(0, rv B a0), (2, .int 0)]) [0, 2] rfl ?_
          exact ih _ _ h
        · refine r_aload_n (pc := 86) (i := 0) C dX6_debts_86 rfl rfl ?_
          refine r_callVI (pc := 87) (As := []) (st := []) C cs_X6_293_X6_readsLine h (fun _ _ e => w_X6_readsLine (Nat.le_refl 3) e) (fun _ _ e => t_X6_readsLine e) (Nat.le_trans (Nat.le_of_ble_eq_true rfl) hd) (Nat.le_of_ble_eq_true rfl) dX6_debts_87 (fun v17 σ16 h => ?_)
          refine r_ifeq (pc := 90) (tgt := 97) C dX6_debts_90 (by decide) h (fun h => ?_) (fun h => ?_)
          · refine r_iconst (pc := 97) (v := 0) C dX6_debts_97 (by decide) ?_
            refine r_istore_n (pc := 98) (i := 2) C dX6_debts_98 rfl (by decide) ?_
            refine r_goto (pc := 99) (tgt := 62) C dX6_debts_99 (by decide) ?_
            refine r_pick (lv' := [(0, rv B a0), (2, .int 0)]) [0, 2] rfl ?_
            exact ih _ _ h
          · refine r_iconst (pc := 93) (v := 1) C dX6_debts_93 (by decide) ?_
            refine r_goto (pc := 94) (tgt := 98) C dX6_debts_94 (by decide) ?_
            refine r_istore_n (pc := 98) (i := 2) C dX6_debts_98 rfl (by decide) ?_
            refine r_goto (pc := 99) (tgt := 62) C dX6_debts_99 (by decide) ?_
            refine r_pick (lv' := [(0, rv B a0), (2, .int 1)]) [0, 2] rfl ?_
            exact ih _ _ h
theorem wl_X6_debts_118 {B : Nat} {G : XG} {d : Nat} {rf : Int32} {σf : MM} (hd : 4 ≤ d) (C : xC B G yX6_debts cX6_debts 4 (some .int) d 0 0) (E : xEnd B G (some (.int rf)) σf 0 0) {K : MM → Option (Int32 × MM)} {F : Nat} {a0 : Nat} (hK : ∀ (σ : MM), K σ = some (rf, σf) → xV B G 0 0 σ 144 [(0, rv B a0)] []) : ∀ (f : Nat) (z3 : Int32) (σ : MM), l_X6_debts_118 K F a0 f z3 σ = some (rf, σf) → xV B G 0 0 σ 118 [(0, rv B a0), (3, .int z3)] [] := by
  intro f
  induction f with
  | zero =>
    intro z3 σ h
    have h : none = some (rf, σf) := h
    cases h
  | succ f ih =>
    intro z3 σ h
    rw [l_X6_debts_118.eq_2] at h
    refine r_iload_n (pc := 118) (i := 3) C dX6_debts_118 rfl rfl ?_
    refine r_bipush (pc := 119) (v := 100) C dX6_debts_119 (by decide) ?_
    refine r_icmpge (pc := 121) (tgt := 144) C dX6_debts_121 (by decide) h (fun h => ?_) (fun h => ?_)
    · refine r_pick (lv' := [(0, rv B a0)]) [0] rfl ?_
      exact hK _ h
    · refine r_aload_n (pc := 124) (i := 0) C dX6_debts_124 rfl rfl ?_
      refine r_getP (pc := 125) C fd_X6_7 rfl dX6_debts_125 h (fun p21 h => ?_)
      refine r_iconst (pc := 128) (v := 0) C dX6_debts_128 (by decide) ?_
      refine r_iload_n (pc := 129) (i := 3) C dX6_debts_129 rfl rfl ?_
      refine r_iadd (pc := 130) C dX6_debts_130 ?_
      refine r_aload_n (pc := 131) (i := 0) C dX6_debts_131 rfl rfl ?_
      refine r_getP (pc := 132) C fd_X6_68 rfl dX6_debts_132 h (fun p22 h => ?_)
      refine r_iload_n (pc := 135) (i := 3) C dX6_debts_135 rfl rfl ?_
      refine r_iald (pc := 136) C dX6_debts_136 h (fun v23 h => ?_)
      refine r_iast (pc := 137) C dX6_debts_137 h (fun σ24 h => ?_)
      refine r_iinc (pc := 138) (i := 3) (v := (z3 + 1)) C dX6_debts_138 rfl rfl (by decide) ?_
      refine r_goto (pc := 141) (tgt := 118) C dX6_debts_141 (by decide) ?_
      refine r_pick (lv' := [(0, rv B a0), (3, .int (z3 + 1))]) [0, 3] rfl ?_
      exact ih _ _ h
theorem w_X6_debts {B F : Nat} {d : Nat} {σ : MM} {a0 : Nat} {x1 : Int32} {rf : Int32} {σf : MM} (hd : 4 ≤ d) (h : g_X6_debts F σ a0 x1 = some (rf, σf)) : xMA B yX6_debts cX6_debts 4 (some .int) d 0 0 [rv B a0, .int x1] σ (some (.int rf)) σf := by
  refine xMA.of (by decide +kernel) (Nat.le_of_ble_eq_true rfl) (cat_rv (cat_int cat_nil)) (fun G C E => ?_)
  unfold g_X6_debts at h
  obtain ⟨-, h⟩ := r_ck h
  refine r_iload_n (pc := 0) (i := 1) C dX6_debts_0 rfl rfl ?_
  refine r_iconst (pc := 1) (v := 1) C dX6_debts_1 (by decide) ?_
  refine r_sipush (pc := 2) (v := 160) C dX6_debts_2 (by decide) ?_
  refine r_callSI (pc := 5) (As := [.int x1, .int 1, .int 160]) (st := []) C cs_X6_123_X6_in h (fun _ _ e => w_X6_in (Nat.le_refl 0) e) (Nat.le_trans (Nat.le_of_ble_eq_true rfl) hd) (Nat.le_of_ble_eq_true rfl) dX6_debts_5 (fun v2 σ1 h => ?_)
  refine r_ifeq (pc := 8) (tgt := 19) C dX6_debts_8 (by decide) h (fun h => ?_) (fun h => ?_)
  · refine r_iconst (pc := 19) (v := (-1)) C dX6_debts_19 (by decide) ?_
    exact r_iret (pc := 20) C rfl dX6_debts_20 h E
  · refine r_iload_n (pc := 11) (i := 1) C dX6_debts_11 rfl rfl ?_
    refine r_aload_n (pc := 12) (i := 0) C dX6_debts_12 rfl rfl ?_
    refine r_getI (pc := 13) C fd_X6_160 rfl dX6_debts_13 h (fun v3 h => ?_)
    refine r_icmple (pc := 16) (tgt := 21) C dX6_debts_16 (by decide) h (fun h => ?_) (fun h => ?_)
    · refine r_aload_n (pc := 21) (i := 0) C dX6_debts_21 rfl rfl ?_
      refine r_iconst (pc := 22) (v := 0) C dX6_debts_22 (by decide) ?_
      refine r_putI (pc := 23) C fd_X6_166 ft_X6_8 dX6_debts_23 h (fun σ4 h => ?_)
      refine r_aload_n (pc := 26) (i := 0) C dX6_debts_26 rfl rfl ?_
      refine r_iload_n (pc := 27) (i := 1) C dX6_debts_27 rfl rfl ?_
      refine r_putI (pc := 28) C fd_X6_169 ft_X6_9 dX6_debts_28 h (fun σ5 h => ?_)
      refine r_aload_n (pc := 31) (i := 0) C dX6_debts_31 rfl rfl ?_
      refine r_iconst (pc := 32) (v := 0) C dX6_debts_32 (by decide) ?_
      refine r_putI (pc := 33) C fd_X6_283 ft_X6_31 dX6_debts_33 h (fun σ6 h => ?_)
      refine r_iconst (pc := 36) (v := 0) C dX6_debts_36 (by decide) ?_
      refine r_istore_n (pc := 37) (i := 2) C dX6_debts_37 rfl (by decide) ?_
      refine r_pick (lv' := [(0, rv B a0), (2, .int 0)]) [0, 2] rfl ?_
      refine wl_X6_debts_38 hd C E (fun  σ9 h => ?_) _ _ _ h
      refine r_aload_n (pc := 57) (i := 0) C dX6_debts_57 rfl rfl ?_
      refine r_callVI (pc := 58) (As := []) (st := []) C cs_X6_293_X6_readsLine h (fun _ _ e => w_X6_readsLine (Nat.le_refl 3) e) (fun _ _ e => t_X6_readsLine e) (Nat.le_trans (Nat.le_of_ble_eq_true rfl) hd) (Nat.le_of_ble_eq_true rfl) dX6_debts_58 (fun v11 σ10 h => ?_)
      refine r_istore_n (pc := 61) (i := 2) C dX6_debts_61 rfl (by decide) ?_
      refine r_pick (lv' := [(0, rv B a0), (2, .int v11)]) [0, 2] rfl ?_
      refine wl_X6_debts_62 hd C E (fun r2_19 σ18 h => ?_) _ _ _ h
      refine r_aload_n (pc := 102) (i := 0) C dX6_debts_102 rfl rfl ?_
      refine r_iconst (pc := 103) (v := 0) C dX6_debts_103 (by decide) ?_
      refine r_putI (pc := 104) C fd_X6_160 ft_X6_7 dX6_debts_104 h (fun σ20 h => ?_)
      refine r_iload_n (pc := 107) (i := 2) C dX6_debts_107 rfl rfl ?_
      refine r_ifne (pc := 108) (tgt := 116) C dX6_debts_108 (by decide) h (fun h => ?_) (fun h => ?_)
      · refine r_iconst (pc := 116) (v := 0) C dX6_debts_116 (by decide) ?_
        refine r_istore_n (pc := 117) (i := 3) C dX6_debts_117 rfl (by decide) ?_
        refine r_pick (lv' := [(0, rv B a0), (3, .int 0)]) [0, 3] rfl ?_
        refine wl_X6_debts_118 hd C E (fun  σ25 h => ?_) _ _ _ h
        refine r_aload_n (pc := 144) (i := 0) C dX6_debts_144 rfl rfl ?_
        refine r_callVI (pc := 145) (As := []) (st := []) C cs_X6_296_X6_owedInAll h (fun _ _ e => w_X6_owedInAll (Nat.le_refl 2) e) (fun _ _ e => t_X6_owedInAll e) (Nat.le_trans (Nat.le_of_ble_eq_true rfl) hd) (Nat.le_of_ble_eq_true rfl) dX6_debts_145 (fun v27 σ26 h => ?_)
        exact r_iret (pc := 148) C rfl dX6_debts_148 h E
      · refine r_aload_n (pc := 111) (i := 0) C dX6_debts_111 rfl rfl ?_
        refine r_getI (pc := 112) C fd_X6_176 rfl dX6_debts_112 h (fun v28 h => ?_)
        exact r_iret (pc := 115) C rfl dX6_debts_115 h E
    · refine r_iconst (pc := 19) (v := (-1)) C dX6_debts_19 (by decide) ?_
      exact r_iret (pc := 20) C rfl dX6_debts_20 h E
theorem t_X6_debts {F : Nat} {σ : MM} {a0 : Nat} {x1 : Int32} {r : Int32 × MM} (h : g_X6_debts F σ a0 x1 = some r) : mT σ a0 = (5, 62) := by
  unfold g_X6_debts at h
  exact (r_ck h).1
theorem fd_X6_330 : xFg RX6 330 5 62 32 := ⟨_, rfl, rfl, by decide, by decide, in_X6, Or.inl q1297⟩
theorem ft_X6_32 : xFt 5 32 .int false := ⟨_, rfl, by decide +kernel, rfl, rfl⟩
theorem fd_X6_306 : xFg RX6 306 5 62 33 := ⟨_, rfl, rfl, by decide, by decide, in_X6, Or.inl q1298⟩
theorem ft_X6_33 : xFt 5 33 .int false := ⟨_, rfl, by decide +kernel, rfl, rfl⟩
theorem fd_X6_309 : xFg RX6 309 5 62 34 := ⟨_, rfl, rfl, by decide, by decide, in_X6, Or.inl q1299⟩
theorem ft_X6_34 : xFt 5 34 .int false := ⟨_, rfl, by decide +kernel, rfl, rfl⟩
def g_X6_begins (F : Nat) (σ : MM) (a0 : Nat) : Option (MM) := if mT σ a0 = (5, 62) then ((pI σ a0 5 62 32 0).bind fun σ1 => (pI σ1 a0 5 62 33 0).bind fun σ2 => (pI σ2 a0 5 62 34 0).bind fun σ3 => some σ3) else none
theorem w_X6_begins {B F : Nat} {d : Nat} {σ : MM} {a0 : Nat} {σf : MM} (hd : 0 ≤ d) (h : g_X6_begins F σ a0 = some σf) : xMA B yX6_begins cX6_begins 1 none d 0 0 [rv B a0] σ none σf := by
  refine xMA.of (by decide +kernel) (Nat.le_of_ble_eq_true rfl) (cat_rv cat_nil) (fun G C E => ?_)
  unfold g_X6_begins at h
  obtain ⟨-, h⟩ := r_ck h
  refine r_aload_n (pc := 0) (i := 0) C dX6_begins_0 rfl rfl ?_
  refine r_iconst (pc := 1) (v := 0) C dX6_begins_1 (by decide) ?_
  refine r_putI (pc := 2) C fd_X6_330 ft_X6_32 dX6_begins_2 h (fun σ1 h => ?_)
  refine r_aload_n (pc := 5) (i := 0) C dX6_begins_5 rfl rfl ?_
  refine r_iconst (pc := 6) (v := 0) C dX6_begins_6 (by decide) ?_
  refine r_putI (pc := 7) C fd_X6_306 ft_X6_33 dX6_begins_7 h (fun σ2 h => ?_)
  refine r_aload_n (pc := 10) (i := 0) C dX6_begins_10 rfl rfl ?_
  refine r_iconst (pc := 11) (v := 0) C dX6_begins_11 (by decide) ?_
  refine r_putI (pc := 12) C fd_X6_309 ft_X6_34 dX6_begins_12 h (fun σ3 h => ?_)
  exact r_vret (pc := 15) C rfl dX6_begins_15 h E
theorem t_X6_begins {F : Nat} {σ : MM} {a0 : Nat} {r : MM} (h : g_X6_begins F σ a0 = some r) : mT σ a0 = (5, 62) := by
  unfold g_X6_begins at h
  exact (r_ck h).1
theorem fd_X6_65 : xFg RX6 65 5 62 29 := ⟨_, rfl, rfl, by decide, by decide, in_X6, Or.inl q1294⟩
theorem ft_X6_29 : xFt 5 29 (.array .int) true := ⟨_, rfl, by decide +kernel, rfl, rfl⟩
def l_X6_feels_2 (K : MM → Option (MM)) (F : Nat) (a0 : Nat) (x1 : Int32) : Nat → Int32 → MM → Option (MM)
  | 0, _, _ => none
  | f + 1, z2, σ => if z2 < 8 then ((gP σ a0 5 62 29).bind fun p1 => (sI σ p1 z2 0).bind fun σ2 => l_X6_feels_2 K F a0 x1 f ((z2 + 1)) σ2) else (K σ)
def g_X6_feels (F : Nat) (σ : MM) (a0 : Nat) (x1 : Int32) : Option (MM) := if mT σ a0 = (5, 62) then (l_X6_feels_2 (fun (σ3 : MM) => (gP σ3 a0 5 62 29).bind fun p4 => (sI σ3 p4 6 x1).bind fun σ5 => (gP σ5 a0 5 62 29).bind fun p6 => (gP σ5 a0 5 62 0).bind fun p7 => (aI σ5 p7 20 156).bind fun v8 => (sI σ5 p6 7 v8).bind fun σ9 => some σ9) F a0 x1 F 0 σ) else none
theorem wl_X6_feels_2 {B : Nat} {G : XG} {d : Nat} {σf : MM} (hd : 0 ≤ d) (C : xC B G yX6_feels cX6_feels 3 none d 0 0) (E : xEnd B G none σf 0 0) {K : MM → Option (MM)} {F : Nat} {a0 : Nat} {x1 : Int32} (hK : ∀ (σ : MM), K σ = some σf → xV B G 0 0 σ 21 [(0, rv B a0), (1, .int x1)] []) : ∀ (f : Nat) (z2 : Int32) (σ : MM), l_X6_feels_2 K F a0 x1 f z2 σ = some σf → xV B G 0 0 σ 2 [(0, rv B a0), (1, .int x1), (2, .int z2)] [] := by
  intro f
  induction f with
  | zero =>
    intro z2 σ h
    have h : none = some σf := h
    cases h
  | succ f ih =>
    intro z2 σ h
    rw [l_X6_feels_2.eq_2] at h
    refine r_iload_n (pc := 2) (i := 2) C dX6_feels_2 rfl rfl ?_
    refine r_bipush (pc := 3) (v := 8) C dX6_feels_3 (by decide) ?_
    refine r_icmpge (pc := 5) (tgt := 21) C dX6_feels_5 (by decide) h (fun h => ?_) (fun h => ?_)
    · refine r_pick (lv' := [(0, rv B a0), (1, .int x1)]) [0, 1] rfl ?_
      exact hK _ h
    · refine r_aload_n (pc := 8) (i := 0) C dX6_feels_8 rfl rfl ?_
      refine r_getP (pc := 9) C fd_X6_65 rfl dX6_feels_9 h (fun p1 h => ?_)
      refine r_iload_n (pc := 12) (i := 2) C dX6_feels_12 rfl rfl ?_
      refine r_iconst (pc := 13) (v := 0) C dX6_feels_13 (by decide) ?_
      refine r_iast (pc := 14) C dX6_feels_14 h (fun σ2 h => ?_)
      refine r_iinc (pc := 15) (i := 2) (v := (z2 + 1)) C dX6_feels_15 rfl rfl (by decide) ?_
      refine r_goto (pc := 18) (tgt := 2) C dX6_feels_18 (by decide) ?_
      refine r_pick (lv' := [(0, rv B a0), (1, .int x1), (2, .int (z2 + 1))]) [0, 1, 2] rfl ?_
      exact ih _ _ h
theorem w_X6_feels {B F : Nat} {d : Nat} {σ : MM} {a0 : Nat} {x1 : Int32} {σf : MM} (hd : 0 ≤ d) (h : g_X6_feels F σ a0 x1 = some σf) : xMA B yX6_feels cX6_feels 3 none d 0 0 [rv B a0, .int x1] σ none σf := by
  refine xMA.of (by decide +kernel) (Nat.le_of_ble_eq_true rfl) (cat_rv (cat_int cat_nil)) (fun G C E => ?_)
  unfold g_X6_feels at h
  obtain ⟨-, h⟩ := r_ck h
  refine r_iconst (pc := 0) (v := 0) C dX6_feels_0 (by decide) ?_
  refine r_istore_n (pc := 1) (i := 2) C dX6_feels_1 rfl (by decide) ?_
  refine r_pick (lv' := [(0, rv B a0), (1, .int x1), (2, .int 0)]) [0, 1, 2] rfl ?_
  refine wl_X6_feels_2 hd C E (fun  σ3 h => ?_) _ _ _ h
  refine r_aload_n (pc := 21) (i := 0) C dX6_feels_21 rfl rfl ?_
  refine r_getP (pc := 22) C fd_X6_65 rfl dX6_feels_22 h (fun p4 h => ?_)
  refine r_bipush (pc := 25) (v := 6) C dX6_feels_25 (by decide) ?_
  refine r_iload_n (pc := 27) (i := 1) C dX6_feels_27 rfl rfl ?_
  refine r_iast (pc := 28) C dX6_feels_28 h (fun σ5 h => ?_)
  refine r_aload_n (pc := 29) (i := 0) C dX6_feels_29 rfl rfl ?_
  refine r_getP (pc := 30) C fd_X6_65 rfl dX6_feels_30 h (fun p6 h => ?_)
  refine r_bipush (pc := 33) (v := 7) C dX6_feels_33 (by decide) ?_
  refine r_aload_n (pc := 35) (i := 0) C dX6_feels_35 rfl rfl ?_
  refine r_getP (pc := 36) C fd_X6_7 rfl dX6_feels_36 h (fun p7 h => ?_)
  refine r_sipush (pc := 39) (v := 156) C dX6_feels_39 (by decide) ?_
  refine r_iald (pc := 42) C dX6_feels_42 h (fun v8 h => ?_)
  refine r_iast (pc := 43) C dX6_feels_43 h (fun σ9 h => ?_)
  exact r_vret (pc := 44) C rfl dX6_feels_44 h E
theorem t_X6_feels {F : Nat} {σ : MM} {a0 : Nat} {x1 : Int32} {r : MM} (h : g_X6_feels F σ a0 x1 = some r) : mT σ a0 = (5, 62) := by
  unfold g_X6_feels at h
  exact (r_ck h).1
def g_X6_reckon (F : Nat) (σ : MM) (x0 : Int32) (x1 : Int32) (x2 : Int32) : Option (Int32 × MM) := if x0 = 2 then (some ((x1 + x2), σ)) else if x0 = 3 then (some ((x1 - x2), σ)) else if x0 = 4 then (some ((x1 * x2), σ)) else if x0 = 5 then ((dv x1 x2).bind fun v1 => some (v1, σ)) else if x0 = 6 then ((rm_ x1 x2).bind fun v2 => some (v2, σ)) else if x0 = 7 then (if x1 < x2 then (some (1, σ)) else (some (0, σ))) else if x0 = 8 then (if x2 < x1 then (some (1, σ)) else (some (0, σ))) else (if x1 = x2 then (some (1, σ)) else (some (0, σ)))
theorem w_X6_reckon {B F : Nat} {d : Nat} {σ : MM} {x0 : Int32} {x1 : Int32} {x2 : Int32} {rf : Int32} {σf : MM} (hd : 0 ≤ d) (h : g_X6_reckon F σ x0 x1 x2 = some (rf, σf)) : xMA B yX6_reckon cX6_reckon 3 (some .int) d 0 0 [.int x0, .int x1, .int x2] σ (some (.int rf)) σf := by
  refine xMA.of (by decide +kernel) (Nat.le_of_ble_eq_true rfl) (cat_int (cat_int (cat_int cat_nil))) (fun G C E => ?_)
  unfold g_X6_reckon at h
  refine r_iload_n (pc := 0) (i := 0) C dX6_reckon_0 rfl rfl ?_
  by_cases c0_1 : x0 = 2
  · rw [if_pos c0_1] at h
    refine r_tswE (pc := 1) (tgt := 44) C dX6_reckon_1 c0_1 (by decide) (by decide) rfl (by decide) ?_
    refine r_iload_n (pc := 44) (i := 1) C dX6_reckon_44 rfl rfl ?_
    refine r_iload_n (pc := 45) (i := 2) C dX6_reckon_45 rfl rfl ?_
    refine r_iadd (pc := 46) C dX6_reckon_46 ?_
    exact r_iret (pc := 47) C rfl dX6_reckon_47 h E
  rw [if_neg c0_1] at h
  by_cases c1_1 : x0 = 3
  · rw [if_pos c1_1] at h
    refine r_tswE (pc := 1) (tgt := 48) C dX6_reckon_1 c1_1 (by decide) (by decide) rfl (by decide) ?_
    refine r_iload_n (pc := 48) (i := 1) C dX6_reckon_48 rfl rfl ?_
    refine r_iload_n (pc := 49) (i := 2) C dX6_reckon_49 rfl rfl ?_
    refine r_isub (pc := 50) C dX6_reckon_50 ?_
    exact r_iret (pc := 51) C rfl dX6_reckon_51 h E
  rw [if_neg c1_1] at h
  by_cases c2_1 : x0 = 4
  · rw [if_pos c2_1] at h
    refine r_tswE (pc := 1) (tgt := 52) C dX6_reckon_1 c2_1 (by decide) (by decide) rfl (by decide) ?_
    refine r_iload_n (pc := 52) (i := 1) C dX6_reckon_52 rfl rfl ?_
    refine r_iload_n (pc := 53) (i := 2) C dX6_reckon_53 rfl rfl ?_
    refine r_imul (pc := 54) C dX6_reckon_54 ?_
    exact r_iret (pc := 55) C rfl dX6_reckon_55 h E
  rw [if_neg c2_1] at h
  by_cases c3_1 : x0 = 5
  · rw [if_pos c3_1] at h
    refine r_tswE (pc := 1) (tgt := 56) C dX6_reckon_1 c3_1 (by decide) (by decide) rfl (by decide) ?_
    refine r_iload_n (pc := 56) (i := 1) C dX6_reckon_56 rfl rfl ?_
    refine r_iload_n (pc := 57) (i := 2) C dX6_reckon_57 rfl rfl ?_
    refine r_idiv (pc := 58) C dX6_reckon_58 h (fun v1 h => ?_)
    exact r_iret (pc := 59) C rfl dX6_reckon_59 h E
  rw [if_neg c3_1] at h
  by_cases c4_1 : x0 = 6
  · rw [if_pos c4_1] at h
    refine r_tswE (pc := 1) (tgt := 60) C dX6_reckon_1 c4_1 (by decide) (by decide) rfl (by decide) ?_
    refine r_iload_n (pc := 60) (i := 1) C dX6_reckon_60 rfl rfl ?_
    refine r_iload_n (pc := 61) (i := 2) C dX6_reckon_61 rfl rfl ?_
    refine r_irem (pc := 62) C dX6_reckon_62 h (fun v2 h => ?_)
    exact r_iret (pc := 63) C rfl dX6_reckon_63 h E
  rw [if_neg c4_1] at h
  by_cases c5_1 : x0 = 7
  · rw [if_pos c5_1] at h
    refine r_tswE (pc := 1) (tgt := 64) C dX6_reckon_1 c5_1 (by decide) (by decide) rfl (by decide) ?_
    refine r_iload_n (pc := 64) (i := 1) C dX6_reckon_64 rfl rfl ?_
    refine r_iload_n (pc := 65) (i := 2) C dX6_reckon_65 rfl rfl ?_
    refine r_icmpge (pc := 66) (tgt := 73) C dX6_reckon_66 (by decide) h (fun h => ?_) (fun h => ?_)
    · refine r_iconst (pc := 73) (v := 0) C dX6_reckon_73 (by decide) ?_
      exact r_iret (pc := 74) C rfl dX6_reckon_74 h E
    · refine r_iconst (pc := 69) (v := 1) C dX6_reckon_69 (by decide) ?_
      refine r_goto (pc := 70) (tgt := 74) C dX6_reckon_70 (by decide) ?_
      exact r_iret (pc := 74) C rfl dX6_reckon_74 h E
  rw [if_neg c5_1] at h
  by_cases c6_1 : x0 = 8
  · rw [if_pos c6_1] at h
    refine r_tswE (pc := 1) (tgt := 75) C dX6_reckon_1 c6_1 (by decide) (by decide) rfl (by decide) ?_
    refine r_iload_n (pc := 75) (i := 1) C dX6_reckon_75 rfl rfl ?_
    refine r_iload_n (pc := 76) (i := 2) C dX6_reckon_76 rfl rfl ?_
    refine r_icmple (pc := 77) (tgt := 84) C dX6_reckon_77 (by decide) h (fun h => ?_) (fun h => ?_)
    · refine r_iconst (pc := 84) (v := 0) C dX6_reckon_84 (by decide) ?_
      exact r_iret (pc := 85) C rfl dX6_reckon_85 h E
    · refine r_iconst (pc := 80) (v := 1) C dX6_reckon_80 (by decide) ?_
      refine r_goto (pc := 81) (tgt := 85) C dX6_reckon_81 (by decide) ?_
      exact r_iret (pc := 85) C rfl dX6_reckon_85 h E
  rw [if_neg c6_1] at h
  refine r_dfl (st := []) (tgt := 86) (pc := 1) ?_ (fun hD => ?_)
  · refine r_iload_n (pc := 86) (i := 1) C dX6_reckon_86 rfl rfl ?_
    refine r_iload_n (pc := 87) (i := 2) C dX6_reckon_87 rfl rfl ?_
    refine r_icmpne (pc := 88) (tgt := 95) C dX6_reckon_88 (by decide) h (fun h => ?_) (fun h => ?_)
    · refine r_iconst (pc := 95) (v := 0) C dX6_reckon_95 (by decide) ?_
      exact r_iret (pc := 96) C rfl dX6_reckon_96 h E
    · refine r_iconst (pc := 91) (v := 1) C dX6_reckon_91 (by decide) ?_
      refine r_goto (pc := 92) (tgt := 96) C dX6_reckon_92 (by decide) ?_
      exact r_iret (pc := 96) C rfl dX6_reckon_96 h E
  have n0_1 := tsw_ne (i := 2) c0_1 (by decide)
  have n1_1 := tsw_ne (i := 3) c1_1 (by decide)
  have n2_1 := tsw_ne (i := 4) c2_1 (by decide)
  have n3_1 := tsw_ne (i := 5) c3_1 (by decide)
  have n4_1 := tsw_ne (i := 6) c4_1 (by decide)
  have n5_1 := tsw_ne (i := 7) c5_1 (by decide)
  have n6_1 := tsw_ne (i := 8) c6_1 (by decide)
  exact r_tswO (pc := 1) (tgt := 86) C dX6_reckon_1 (by omega) (by decide) hD
theorem fd_X6_62 : xFg RX6 62 5 62 28 := ⟨_, rfl, rfl, by decide, by decide, in_X6, Or.inl q1293⟩
theorem ft_X6_28 : xFt 5 28 (.array .int) true := ⟨_, rfl, by decide +kernel, rfl, rfl⟩
theorem yd_X6_reckon : xYd yX6_reckon 3 := ⟨by decide +kernel, by decide +kernel, by decide +kernel⟩
theorem cs_X6_258_X6_reckon : xCS RX6 258 yX6_reckon cX6_reckon 3 (some .int) 3 := ⟨by decide, yd_X6_reckon, Or.inl (lw_S q1637 q1638 q122 q1639)⟩
def l_X6_comesTo_16 (K : MM → Option (Int32 × MM)) (F : Nat) (a0 : Nat) (x2 : Int32) (x4 : Int32) : Nat → Int32 → Int32 → MM → Option (Int32 × MM)
  | 0, _, _, _ => none
  | f + 1, z3, z5, σ => if z5 < x2 then ((gP σ a0 5 62 23).bind fun p2 => (aI σ p2 20 z5).bind fun v3 => (dv v3 1048576).bind fun v4 => (gP σ a0 5 62 23).bind fun p5 => (aI σ p5 20 z5).bind fun v6 => (rm_ v6 1048576).bind fun v7 => if v4 = 0 then ((gP σ a0 5 62 28).bind fun p8 => jn (fun (w10 : Int32) (σ9 : MM) => (sI σ9 p8 z3 w10).bind fun σ12 => l_X6_comesTo_16 K F a0 x2 x4 f ((z3 + 1)) ((z5 + 1)) σ12) (fun k11 => if v4 = 0 then (k11 v7 σ) else ((gP σ a0 5 62 29).bind fun p13 => (aI σ p13 20 v7).bind fun v14 => k11 v14 σ))) else (if v4 = 1 then ((gP σ a0 5 62 28).bind fun p43 => jn (fun (w45 : Int32) (σ44 : MM) => (sI σ44 p43 z3 w45).bind fun σ47 => l_X6_comesTo_16 K F a0 x2 x4 f ((z3 + 1)) ((z5 + 1)) σ47) (fun k46 => if v4 = 0 then (k46 v7 σ) else ((gP σ a0 5 62 29).bind fun p48 => (aI σ p48 20 v7).bind fun v49 => k46 v49 σ))) else (if v4 = 10 then ((gP σ a0 5 62 28).bind fun p39 => (gP σ a0 5 62 28).bind fun p40 => (aI σ p40 20 ((z3 - 1))).bind fun v41 => (sI σ p39 ((z3 - 1)) ((1 - v41))).bind fun σ42 => l_X6_comesTo_16 K F a0 x2 x4 f z3 ((z5 + 1)) σ42) else (if v4 = 11 then ((gP σ a0 5 62 28).bind fun p15 => (aI σ p15 20 ((z3 - 1))).bind fun v16 => jn (fun (w18 : Int32) (σ17 : MM) => if v16 = w18 then (l_X6_comesTo_16 K F a0 x2 x4 f z3 ((x4 + v7)) σ17) else (l_X6_comesTo_16 K F a0 x2 x4 f ((z3 - 1)) ((z5 + 1)) σ17)) (fun k19 => if v4 = 12 then (k19 1 σ) else (k19 0 σ))) else (if v4 = 12 then ((gP σ a0 5 62 28).bind fun p34 => (aI σ p34 20 ((z3 - 1))).bind fun v35 => jn (fun (w37 : Int32) (σ36 : MM) => if v35 = w37 then (l_X6_comesTo_16 K F a0 x2 x4 f z3 ((x4 + v7)) σ36) else (l_X6_comesTo_16 K F a0 x2 x4 f ((z3 - 1)) ((z5 + 1)) σ36)) (fun k38 => if v4 = 12 then (k38 1 σ) else (k38 0 σ))) else (jn (fun  (σ20 : MM) => (gP σ20 a0 5 62 28).bind fun p22 => (gP σ20 a0 5 62 28).bind fun p23 => (aI σ20 p23 20 (((z3 - 1) - 1))).bind fun v24 => (gP σ20 a0 5 62 28).bind fun p25 => (aI σ20 p25 20 ((z3 - 1))).bind fun v26 => bq (g_X6_reckon F σ20 v4 v24 v26) fun v28 σ27 => (sI σ27 p22 (((z3 - 1) - 1)) v28).bind fun σ29 => l_X6_comesTo_16 K F a0 x2 x4 f ((z3 - 1)) ((z5 + 1)) σ29) (fun k21 => jn (fun  (σ30 : MM) => (gP σ30 a0 5 62 28).bind fun p32 => (aI σ30 p32 20 ((z3 - 1))).bind fun v33 => if v33 = 0 then (some (0, σ30)) else (k21 σ30)) (fun k31 => if v4 = 5 then (k31 σ) else (if v4 = 6 then (k31 σ) else (k21 σ)))))))))) else (K σ)
def g_X6_comesTo (F : Nat) (σ : MM) (a0 : Nat) (x1 : Int32) (x2 : Int32) : Option (Int32 × MM) := if mT σ a0 = (5, 62) then ((dv x1 260).bind fun v1 => l_X6_comesTo_16 (fun (σ50 : MM) => (gP σ50 a0 5 62 28).bind fun p51 => (aI σ50 p51 20 0).bind fun v52 => some (v52, σ50)) F a0 x2 ((260 * v1)) F 0 x1 σ) else none
theorem wl_X6_comesTo_16 {B : Nat} {G : XG} {d : Nat} {rf : Int32} {σf : MM} (hd : 1 ≤ d) (C : xC B G yX6_comesTo cX6_comesTo 8 (some .int) d 0 0) (E : xEnd B G (some (.int rf)) σf 0 0) {K : MM → Option (Int32 × MM)} {F : Nat} {a0 : Nat} {x2 : Int32} {x4 : Int32} (hK : ∀ (σ : MM), K σ = some (rf, σf) → xV B G 0 0 σ 233 [(0, rv B a0)] []) : ∀ (f : Nat) (z3 : Int32) (z5 : Int32) (σ : MM), l_X6_comesTo_16 K F a0 x2 x4 f z3 z5 σ = some (rf, σf) → xV B G 0 0 σ 16 [(0, rv B a0), (2, .int x2), (3, .int z3), (4, .int x4), (5, .int z5)] [] := by
  intro f
  induction f with
  | zero =>
    intro z3 z5 σ h
    have h : none = some (rf, σf) := h
    cases h
  | succ f ih =>
    intro z3 z5 σ h
    rw [l_X6_comesTo_16.eq_2] at h
    refine r_iload (pc := 16) (i := 5) C dX6_comesTo_16 rfl ?_
    refine r_iload_n (pc := 18) (i := 2) C dX6_comesTo_18 rfl rfl ?_
    refine r_icmpge (pc := 19) (tgt := 233) C dX6_comesTo_19 (by decide) h (fun h => ?_) (fun h => ?_)
    · refine r_pick (lv' := [(0, rv B a0)]) [0] rfl ?_
      exact hK _ h
    · refine r_aload_n (pc := 22) (i := 0) C dX6_comesTo_22 rfl rfl ?_
      refine r_getP (pc := 23) C fd_X6_47 rfl dX6_comesTo_23 h (fun p2 h => ?_)
      refine r_iload (pc := 26) (i := 5) C dX6_comesTo_26 rfl ?_
      refine r_iald (pc := 28) C dX6_comesTo_28 h (fun v3 h => ?_)
      refine r_ldc (pc := 29) C q1518 dX6_comesTo_29 ?_
      refine r_idiv (pc := 31) C dX6_comesTo_31 h (fun v4 h => ?_)
      refine r_istore (pc := 32) (i := 6) C dX6_comesTo_32 (by decide) ?_
      refine r_aload_n (pc := 34) (i := 0) C dX6_comesTo_34 rfl rfl ?_
      refine r_getP (pc := 35) C fd_X6_47 rfl dX6_comesTo_35 h (fun p5 h => ?_)
      refine r_iload (pc := 38) (i := 5) C dX6_comesTo_38 rfl ?_
      refine r_iald (pc := 40) C dX6_comesTo_40 h (fun v6 h => ?_)
      refine r_ldc (pc := 41) C q1518 dX6_comesTo_41 ?_
      refine r_irem (pc := 43) C dX6_comesTo_43 h (fun v7 h => ?_)
      refine r_istore (pc := 44) (i := 7) C dX6_comesTo_44 (by decide) ?_
      refine r_iload (pc := 46) (i := 5) C dX6_comesTo_46 rfl ?_
      refine r_iconst (pc := 48) (v := 1) C dX6_comesTo_48 (by decide) ?_
      refine r_iadd (pc := 49) C dX6_comesTo_49 ?_
      refine r_istore (pc := 50) (i := 5) C dX6_comesTo_50 (by decide) ?_
      refine r_iload (pc := 52) (i := 6) C dX6_comesTo_52 rfl ?_
      refine r_ifeq (pc := 54) (tgt := 63) C dX6_comesTo_54 (by decide) h (fun h => ?_) (fun h => ?_)
      · refine r_aload_n (pc := 63) (i := 0) C dX6_comesTo_63 rfl rfl ?_
        refine r_getP (pc := 64) C fd_X6_62 rfl dX6_comesTo_64 h (fun p8 h => ?_)
        refine r_iload_n (pc := 67) (i := 3) C dX6_comesTo_67 rfl rfl ?_
        refine r_iload (pc := 68) (i := 6) C dX6_comesTo_68 rfl ?_
        refine r_jn (fun k9 => ∀ (w10 : Int32) (σ9 : MM), k9 w10 σ9 = some (rf, σf) → xV B G 0 0 σ9 85 [(0, rv B a0), (2, .int x2), (3, .int z3), (4, .int x4), (5, .int (z5 + 1))] [.int w10, .int z3, rv B p8]) h (fun w10 σ9 h => ?_) (fun k11 hk11 h => ?_)
        · refine r_iast (pc := 85) C dX6_comesTo_85 h (fun σ12 h => ?_)
          refine r_iload_n (pc := 86) (i := 3) C dX6_comesTo_86 rfl rfl ?_
          refine r_iconst (pc := 87) (v := 1) C dX6_comesTo_87 (by decide) ?_
          refine r_iadd (pc := 88) C dX6_comesTo_88 ?_
          refine r_istore_n (pc := 89) (i := 3) C dX6_comesTo_89 rfl (by decide) ?_
          refine r_goto (pc := 90) (tgt := 230) C dX6_comesTo_90 (by decide) ?_
          refine r_goto (pc := 230) (tgt := 16) C dX6_comesTo_230 (by decide) ?_
          refine r_pick (lv' := [(0, rv B a0), (2, .int x2), (3, .int (z3 + 1)), (4, .int x4), (5, .int (z5 + 1))]) [0, 2, 3, 4, 5] rfl ?_
          exact ih _ _ _ h
        · refine r_ifne (pc := 70) (tgt := 78) C dX6_comesTo_70 (by decide) h (fun h => ?_) (fun h => ?_)
          · refine r_aload_n (pc := 78) (i := 0) C dX6_comesTo_78 rfl rfl ?_
            refine r_getP (pc := 79) C fd_X6_65 rfl dX6_comesTo_79 h (fun p13 h => ?_)
            refine r_iload (pc := 82) (i := 7) C dX6_comesTo_82 rfl ?_
            refine r_iald (pc := 84) C dX6_comesTo_84 h (fun v14 h => ?_)
            refine r_pick (lv' := [(0, rv B a0), (2, .int x2), (3, .int z3), (4, .int x4), (5, .int (z5 + 1))]) [0, 2, 3, 4, 5] rfl ?_
            exact hk11 _ _ h
          · refine r_iload (pc := 73) (i := 7) C dX6_comesTo_73 rfl ?_
            refine r_goto (pc := 75) (tgt := 85) C dX6_comesTo_75 (by decide) ?_
            refine r_pick (lv' := [(0, rv B a0), (2, .int x2), (3, .int z3), (4, .int x4), (5, .int (z5 + 1))]) [0, 2, 3, 4, 5] rfl ?_
            exact hk11 _ _ h
      · refine r_iload (pc := 57) (i := 6) C dX6_comesTo_57 rfl ?_
        refine r_iconst (pc := 59) (v := 1) C dX6_comesTo_59 (by decide) ?_
        refine r_icmpne (pc := 60) (tgt := 93) C dX6_comesTo_60 (by decide) h (fun h => ?_) (fun h => ?_)
        · refine r_iload (pc := 93) (i := 6) C dX6_comesTo_93 rfl ?_
          refine r_bipush (pc := 95) (v := 10) C dX6_comesTo_95 (by decide) ?_
          refine r_icmpne (pc := 97) (tgt := 121) C dX6_comesTo_97 (by decide) h (fun h => ?_) (fun h => ?_)
          · refine r_iload (pc := 121) (i := 6) C dX6_comesTo_121 rfl ?_
            refine r_bipush (pc := 123) (v := 11) C dX6_comesTo_123 (by decide) ?_
            refine r_icmpeq (pc := 125) (tgt := 135) C dX6_comesTo_125 (by decide) h (fun h => ?_) (fun h => ?_)
            · refine r_aload_n (pc := 135) (i := 0) C dX6_comesTo_135 rfl rfl ?_
              refine r_getP (pc := 136) C fd_X6_62 rfl dX6_comesTo_136 h (fun p15 h => ?_)
              refine r_iload_n (pc := 139) (i := 3) C dX6_comesTo_139 rfl rfl ?_
              refine r_iconst (pc := 140) (v := 1) C dX6_comesTo_140 (by decide) ?_
              refine r_isub (pc := 141) C dX6_comesTo_141 ?_
              refine r_iald (pc := 142) C dX6_comesTo_142 h (fun v16 h => ?_)
              refine r_iload (pc := 143) (i := 6) C dX6_comesTo_143 rfl ?_
              refine r_bipush (pc := 145) (v := 12) C dX6_comesTo_145 (by decide) ?_
              refine r_jn (fun k9 => ∀ (w18 : Int32) (σ17 : MM), k9 w18 σ17 = some (rf, σf) → xV B G 0 0 σ17 155 [(0, rv B a0), (2, .int x2), (3, .int z3), (4, .int x4), (5, .int (z5 + 1)), (7, .int v7)] [.int w18, .int v16]) h (fun w18 σ17 h => ?_) (fun k19 hk19 h => ?_)
              · refine r_icmpne (pc := 155) (tgt := 168) C dX6_comesTo_155 (by decide) h (fun h => ?_) (fun h => ?_)
                · refine r_iload_n (pc := 168) (i := 3) C dX6_comesTo_168 rfl rfl ?_
                  refine r_iconst (pc := 169) (v := 1) C dX6_comesTo_169 (by decide) ?_
                  refine r_isub (pc := 170) C dX6_comesTo_170 ?_
                  refine r_istore_n (pc := 171) (i := 3) C dX6_comesTo_171 rfl (by decide) ?_
                  refine r_goto (pc := 172) (tgt := 230) C dX6_comesTo_172 (by decide) ?_
                  refine r_goto (pc := 230) (tgt := 16) C dX6_comesTo_230 (by decide) ?_
                  refine r_pick (lv' := [(0, rv B a0), (2, .int x2), (3, .int (z3 - 1)), (4, .int x4), (5, .int (z5 + 1))]) [0, 2, 3, 4, 5] rfl ?_
                  exact ih _ _ _ h
                · refine r_iload (pc := 158) (i := 4) C dX6_comesTo_158 rfl ?_
                  refine r_iload (pc := 160) (i := 7) C dX6_comesTo_160 rfl ?_
                  refine r_iadd (pc := 162) C dX6_comesTo_162 ?_
                  refine r_istore (pc := 163) (i := 5) C dX6_comesTo_163 (by decide) ?_
                  refine r_goto (pc := 165) (tgt := 230) C dX6_comesTo_165 (by decide) ?_
                  refine r_goto (pc := 230) (tgt := 16) C dX6_comesTo_230 (by decide) ?_
                  refine r_pick (lv' := [(0, rv B a0), (2, .int x2), (3, .int z3), (4, .int x4), (5, .int (x4 + v7))]) [0, 2, 3, 4, 5] rfl ?_
                  exact ih _ _ _ h
              · refine r_icmpne (pc := 147) (tgt := 154) C dX6_comesTo_147 (by decide) h (fun h => ?_) (fun h => ?_)
                · refine r_iconst (pc := 154) (v := 0) C dX6_comesTo_154 (by decide) ?_
                  refine r_pick (lv' := [(0, rv B a0), (2, .int x2), (3, .int z3), (4, .int x4), (5, .int (z5 + 1)), (7, .int v7)]) [0, 2, 3, 4, 5, 7] rfl ?_
                  exact hk19 _ _ h
                · refine r_iconst (pc := 150) (v := 1) C dX6_comesTo_150 (by decide) ?_
                  refine r_goto (pc := 151) (tgt := 155) C dX6_comesTo_151 (by decide) ?_
                  refine r_pick (lv' := [(0, rv B a0), (2, .int x2), (3, .int z3), (4, .int x4), (5, .int (z5 + 1)), (7, .int v7)]) [0, 2, 3, 4, 5, 7] rfl ?_
                  exact hk19 _ _ h
            · refine r_iload (pc := 128) (i := 6) C dX6_comesTo_128 rfl ?_
              refine r_bipush (pc := 130) (v := 12) C dX6_comesTo_130 (by decide) ?_
              refine r_icmpne (pc := 132) (tgt := 175) C dX6_comesTo_132 (by decide) h (fun h => ?_) (fun h => ?_)
              · refine r_iload_n (pc := 175) (i := 3) C dX6_comesTo_175 rfl rfl ?_
                refine r_iconst (pc := 176) (v := 1) C dX6_comesTo_176 (by decide) ?_
                refine r_isub (pc := 177) C dX6_comesTo_177 ?_
                refine r_istore_n (pc := 178) (i := 3) C dX6_comesTo_178 rfl (by decide) ?_
                refine r_iload (pc := 179) (i := 6) C dX6_comesTo_179 rfl ?_
                refine r_iconst (pc := 181) (v := 5) C dX6_comesTo_181 (by decide) ?_
                refine r_jn (fun k9 => ∀  (σ20 : MM), k9 σ20 = some (rf, σf) → xV B G 0 0 σ20 203 [(0, rv B a0), (2, .int x2), (3, .int (z3 - 1)), (4, .int x4), (5, .int (z5 + 1)), (6, .int v4)] []) h (fun  σ20 h => ?_) (fun k21 hk21 h => ?_)
                · refine r_aload_n (pc := 203) (i := 0) C dX6_comesTo_203 rfl rfl ?_
                  refine r_getP (pc := 204) C fd_X6_62 rfl dX6_comesTo_204 h (fun p22 h => ?_)
                  refine r_iload_n (pc := 207) (i := 3) C dX6_comesTo_207 rfl rfl ?_
                  refine r_iconst (pc := 208) (v := 1) C dX6_comesTo_208 (by decide) ?_
                  refine r_isub (pc := 209) C dX6_comesTo_209 ?_
                  refine r_iload (pc := 210) (i := 6) C dX6_comesTo_210 rfl ?_
                  refine r_aload_n (pc := 212) (i := 0) C dX6_comesTo_212 rfl rfl ?_
                  refine r_getP (pc := 213) C fd_X6_62 rfl dX6_comesTo_213 h (fun p23 h => ?_)
                  refine r_iload_n (pc := 216) (i := 3) C dX6_comesTo_216 rfl rfl ?_
                  refine r_iconst (pc := 217) (v := 1) C dX6_comesTo_217 (by decide) ?_
                  refine r_isub (pc := 218) C dX6_comesTo_218 ?_
                  refine r_iald (pc := 219) C dX6_comesTo_219 h (fun v24 h => ?_)
                  refine r_aload_n (pc := 220) (i := 0) C dX6_comesTo_220 rfl rfl ?_
                  refine r_getP (pc := 221) C fd_X6_62 rfl dX6_comesTo_221 h (fun p25 h => ?_)
                  refine r_iload_n (pc := 224) (i := 3) C dX6_comesTo_224 rfl rfl ?_
                  refine r_iald (pc := 225) C dX6_comesTo_225 h (fun v26 h => ?_)
                  refine r_callSI (pc := 226) (As := [.int v4, .int v24, .int v26]) (st := [.int ((z3 - 1) - 1), rv B p22]) C cs_X6_258_X6_reckon h (fun _ _ e => w_X6_reckon (Nat.le_refl 0) e) (Nat.le_trans (Nat.le_of_ble_eq_true rfl) hd) (Nat.le_of_ble_eq_true rfl) dX6_comesTo_226 (fun v28 σ27 h => ?_)
                  refine r_iast (pc := 229) C dX6_comesTo_229 h (fun σ29 h => ?_)
                  refine r_goto (pc := 230) (tgt := 16) C dX6_comesTo_230 (by decide) ?_
                  refine r_pick (lv' := [(0, rv B a0), (2, .int x2), (3, .int (z3 - 1)), (4, .int x4), (5, .int (z5 + 1))]) [0, 2, 3, 4, 5] rfl ?_
                  exact ih _ _ _ h
                · refine r_jn (fun k9 => ∀  (σ30 : MM), k9 σ30 = some (rf, σf) → xV B G 0 0 σ30 192 [(0, rv B a0), (2, .int x2), (3, .int (z3 - 1)), (4, .int x4), (5, .int (z5 + 1)), (6, .int v4)] []) h (fun  σ30 h => ?_) (fun k31 hk31 h => ?_)
                  · refine r_aload_n (pc := 192) (i := 0) C dX6_comesTo_192 rfl rfl ?_
                    refine r_getP (pc := 193) C fd_X6_62 rfl dX6_comesTo_193 h (fun p32 h => ?_)
                    refine r_iload_n (pc := 196) (i := 3) C dX6_comesTo_196 rfl rfl ?_
                    refine r_iald (pc := 197) C dX6_comesTo_197 h (fun v33 h => ?_)
                    refine r_ifne (pc := 198) (tgt := 203) C dX6_comesTo_198 (by decide) h (fun h => ?_) (fun h => ?_)
                    · refine r_pick (lv' := [(0, rv B a0), (2, .int x2), (3, .int (z3 - 1)), (4, .int x4), (5, .int (z5 + 1)), (6, .int v4)]) [0, 2, 3, 4, 5, 6] rfl ?_
                      exact hk21 _ h
                    · refine r_iconst (pc := 201) (v := 0) C dX6_comesTo_201 (by decide) ?_
                      exact r_iret (pc := 202) C rfl dX6_comesTo_202 h E
                  · refine r_icmpeq (pc := 182) (tgt := 192) C dX6_comesTo_182 (by decide) h (fun h => ?_) (fun h => ?_)
                    · refine r_pick (lv' := [(0, rv B a0), (2, .int x2), (3, .int (z3 - 1)), (4, .int x4), (5, .int (z5 + 1)), (6, .int v4)]) [0, 2, 3, 4, 5, 6] rfl ?_
                      exact hk31 _ h
                    · refine r_iload (pc := 185) (i := 6) C dX6_comesTo_185 rfl ?_
                      refine r_bipush (pc := 187) (v := 6) C dX6_comesTo_187 (by decide) ?_
                      refine r_icmpne (pc := 189) (tgt := 203) C dX6_comesTo_189 (by decide) h (fun h => ?_) (fun h => ?_)
                      · refine r_pick (lv' := [(0, rv B a0), (2, .int x2), (3, .int (z3 - 1)), (4, .int x4), (5, .int (z5 + 1)), (6, .int v4)]) [0, 2, 3, 4, 5, 6] rfl ?_
                        exact hk21 _ h
                      · refine r_pick (lv' := [(0, rv B a0), (2, .int x2), (3, .int (z3 - 1)), (4, .int x4), (5, .int (z5 + 1)), (6, .int v4)]) [0, 2, 3, 4, 5, 6] rfl ?_
                        exact hk31 _ h
              · refine r_aload_n (pc := 135) (i := 0) C dX6_comesTo_135 rfl rfl ?_
                refine r_getP (pc := 136) C fd_X6_62 rfl dX6_comesTo_136 h (fun p34 h => ?_)
                refine r_iload_n (pc := 139) (i := 3) C dX6_comesTo_139 rfl rfl ?_
                refine r_iconst (pc := 140) (v := 1) C dX6_comesTo_140 (by decide) ?_
                refine r_isub (pc := 141) C dX6_comesTo_141 ?_
                refine r_iald (pc := 142) C dX6_comesTo_142 h (fun v35 h => ?_)
                refine r_iload (pc := 143) (i := 6) C dX6_comesTo_143 rfl ?_
                refine r_bipush (pc := 145) (v := 12) C dX6_comesTo_145 (by decide) ?_
                refine r_jn (fun k9 => ∀ (w37 : Int32) (σ36 : MM), k9 w37 σ36 = some (rf, σf) → xV B G 0 0 σ36 155 [(0, rv B a0), (2, .int x2), (3, .int z3), (4, .int x4), (5, .int (z5 + 1)), (7, .int v7)] [.int w37, .int v35]) h (fun w37 σ36 h => ?_) (fun k38 hk38 h => ?_)
                · refine r_icmpne (pc := 155) (tgt := 168) C dX6_comesTo_155 (by decide) h (fun h => ?_) (fun h => ?_)
                  · refine r_iload_n (pc := 168) (i := 3) C dX6_comesTo_168 rfl rfl ?_
                    refine r_iconst (pc := 169) (v := 1) C dX6_comesTo_169 (by decide) ?_
                    refine r_isub (pc := 170) C dX6_comesTo_170 ?_
                    refine r_istore_n (pc := 171) (i := 3) C dX6_comesTo_171 rfl (by decide) ?_
                    refine r_goto (pc := 172) (tgt := 230) C dX6_comesTo_172 (by decide) ?_
                    refine r_goto (pc := 230) (tgt := 16) C dX6_comesTo_230 (by decide) ?_
                    refine r_pick (lv' := [(0, rv B a0), (2, .int x2), (3, .int (z3 - 1)), (4, .int x4), (5, .int (z5 + 1))]) [0, 2, 3, 4, 5] rfl ?_
                    exact ih _ _ _ h
                  · refine r_iload (pc := 158) (i := 4) C dX6_comesTo_158 rfl ?_
                    refine r_iload (pc := 160) (i := 7) C dX6_comesTo_160 rfl ?_
                    refine r_iadd (pc := 162) C dX6_comesTo_162 ?_
                    refine r_istore (pc := 163) (i := 5) C dX6_comesTo_163 (by decide) ?_
                    refine r_goto (pc := 165) (tgt := 230) C dX6_comesTo_165 (by decide) ?_
                    refine r_goto (pc := 230) (tgt := 16) C dX6_comesTo_230 (by decide) ?_
                    refine r_pick (lv' := [(0, rv B a0), (2, .int x2), (3, .int z3), (4, .int x4), (5, .int (x4 + v7))]) [0, 2, 3, 4, 5] rfl ?_
                    exact ih _ _ _ h
                · refine r_icmpne (pc := 147) (tgt := 154) C dX6_comesTo_147 (by decide) h (fun h => ?_) (fun h => ?_)
                  · refine r_iconst (pc := 154) (v := 0) C dX6_comesTo_154 (by decide) ?_
                    refine r_pick (lv' := [(0, rv B a0), (2, .int x2), (3, .int z3), (4, .int x4), (5, .int (z5 + 1)), (7, .int v7)]) [0, 2, 3, 4, 5, 7] rfl ?_
                    exact hk38 _ _ h
                  · refine r_iconst (pc := 150) (v := 1) C dX6_comesTo_150 (by decide) ?_
                    refine r_goto (pc := 151) (tgt := 155) C dX6_comesTo_151 (by decide) ?_
                    refine r_pick (lv' := [(0, rv B a0), (2, .int x2), (3, .int z3), (4, .int x4), (5, .int (z5 + 1)), (7, .int v7)]) [0, 2, 3, 4, 5, 7] rfl ?_
                    exact hk38 _ _ h
          · refine r_aload_n (pc := 100) (i := 0) C dX6_comesTo_100 rfl rfl ?_
            refine r_getP (pc := 101) C fd_X6_62 rfl dX6_comesTo_101 h (fun p39 h => ?_)
            refine r_iload_n (pc := 104) (i := 3) C dX6_comesTo_104 rfl rfl ?_
            refine r_iconst (pc := 105) (v := 1) C dX6_comesTo_105 (by decide) ?_
            refine r_isub (pc := 106) C dX6_comesTo_106 ?_
            refine r_iconst (pc := 107) (v := 1) C dX6_comesTo_107 (by decide) ?_
            refine r_aload_n (pc := 108) (i := 0) C dX6_comesTo_108 rfl rfl ?_
            refine r_getP (pc := 109) C fd_X6_62 rfl dX6_comesTo_109 h (fun p40 h => ?_)
            refine r_iload_n (pc := 112) (i := 3) C dX6_comesTo_112 rfl rfl ?_
            refine r_iconst (pc := 113) (v := 1) C dX6_comesTo_113 (by decide) ?_
            refine r_isub (pc := 114) C dX6_comesTo_114 ?_
            refine r_iald (pc := 115) C dX6_comesTo_115 h (fun v41 h => ?_)
            refine r_isub (pc := 116) C dX6_comesTo_116 ?_
            refine r_iast (pc := 117) C dX6_comesTo_117 h (fun σ42 h => ?_)
            refine r_goto (pc := 118) (tgt := 230) C dX6_comesTo_118 (by decide) ?_
            refine r_goto (pc := 230) (tgt := 16) C dX6_comesTo_230 (by decide) ?_
            refine r_pick (lv' := [(0, rv B a0), (2, .int x2), (3, .int z3), (4, .int x4), (5, .int (z5 + 1))]) [0, 2, 3, 4, 5] rfl ?_
            exact ih _ _ _ h
        · refine r_aload_n (pc := 63) (i := 0) C dX6_comesTo_63 rfl rfl ?_
          refine r_getP (pc := 64) C fd_X6_62 rfl dX6_comesTo_64 h (fun p43 h => ?_)
          refine r_iload_n (pc := 67) (i := 3) C dX6_comesTo_67 rfl rfl ?_
          refine r_iload (pc := 68) (i := 6) C dX6_comesTo_68 rfl ?_
          refine r_jn (fun k9 => ∀ (w45 : Int32) (σ44 : MM), k9 w45 σ44 = some (rf, σf) → xV B G 0 0 σ44 85 [(0, rv B a0), (2, .int x2), (3, .int z3), (4, .int x4), (5, .int (z5 + 1))] [.int w45, .int z3, rv B p43]) h (fun w45 σ44 h => ?_) (fun k46 hk46 h => ?_)
          · refine r_iast (pc := 85) C dX6_comesTo_85 h (fun σ47 h => ?_)
            refine r_iload_n (pc := 86) (i := 3) C dX6_comesTo_86 rfl rfl ?_
            refine r_iconst (pc := 87) (v := 1) C dX6_comesTo_87 (by decide) ?_
            refine r_iadd (pc := 88) C dX6_comesTo_88 ?_
            refine r_istore_n (pc := 89) (i := 3) C dX6_comesTo_89 rfl (by decide) ?_
            refine r_goto (pc := 90) (tgt := 230) C dX6_comesTo_90 (by decide) ?_
            refine r_goto (pc := 230) (tgt := 16) C dX6_comesTo_230 (by decide) ?_
            refine r_pick (lv' := [(0, rv B a0), (2, .int x2), (3, .int (z3 + 1)), (4, .int x4), (5, .int (z5 + 1))]) [0, 2, 3, 4, 5] rfl ?_
            exact ih _ _ _ h
          · refine r_ifne (pc := 70) (tgt := 78) C dX6_comesTo_70 (by decide) h (fun h => ?_) (fun h => ?_)
            · refine r_aload_n (pc := 78) (i := 0) C dX6_comesTo_78 rfl rfl ?_
              refine r_getP (pc := 79) C fd_X6_65 rfl dX6_comesTo_79 h (fun p48 h => ?_)
              refine r_iload (pc := 82) (i := 7) C dX6_comesTo_82 rfl ?_
              refine r_iald (pc := 84) C dX6_comesTo_84 h (fun v49 h => ?_)
              refine r_pick (lv' := [(0, rv B a0), (2, .int x2), (3, .int z3), (4, .int x4), (5, .int (z5 + 1))]) [0, 2, 3, 4, 5] rfl ?_
              exact hk46 _ _ h
            · refine r_iload (pc := 73) (i := 7) C dX6_comesTo_73 rfl ?_
              refine r_goto (pc := 75) (tgt := 85) C dX6_comesTo_75 (by decide) ?_
              refine r_pick (lv' := [(0, rv B a0), (2, .int x2), (3, .int z3), (4, .int x4), (5, .int (z5 + 1))]) [0, 2, 3, 4, 5] rfl ?_
              exact hk46 _ _ h
theorem w_X6_comesTo {B F : Nat} {d : Nat} {σ : MM} {a0 : Nat} {x1 : Int32} {x2 : Int32} {rf : Int32} {σf : MM} (hd : 1 ≤ d) (h : g_X6_comesTo F σ a0 x1 x2 = some (rf, σf)) : xMA B yX6_comesTo cX6_comesTo 8 (some .int) d 0 0 [rv B a0, .int x1, .int x2] σ (some (.int rf)) σf := by
  refine xMA.of (by decide +kernel) (Nat.le_of_ble_eq_true rfl) (cat_rv (cat_int (cat_int cat_nil))) (fun G C E => ?_)
  unfold g_X6_comesTo at h
  obtain ⟨-, h⟩ := r_ck h
  refine r_iconst (pc := 0) (v := 0) C dX6_comesTo_0 (by decide) ?_
  refine r_istore_n (pc := 1) (i := 3) C dX6_comesTo_1 rfl (by decide) ?_
  refine r_sipush (pc := 2) (v := 260) C dX6_comesTo_2 (by decide) ?_
  refine r_iload_n (pc := 5) (i := 1) C dX6_comesTo_5 rfl rfl ?_
  refine r_sipush (pc := 6) (v := 260) C dX6_comesTo_6 (by decide) ?_
  refine r_idiv (pc := 9) C dX6_comesTo_9 h (fun v1 h => ?_)
  refine r_imul (pc := 10) C dX6_comesTo_10 ?_
  refine r_istore (pc := 11) (i := 4) C dX6_comesTo_11 (by decide) ?_
  refine r_iload_n (pc := 13) (i := 1) C dX6_comesTo_13 rfl rfl ?_
  refine r_istore (pc := 14) (i := 5) C dX6_comesTo_14 (by decide) ?_
  refine r_pick (lv' := [(0, rv B a0), (2, .int x2), (3, .int 0), (4, .int (260 * v1)), (5, .int x1)]) [0, 2, 3, 4, 5] rfl ?_
  refine wl_X6_comesTo_16 hd C E (fun  σ50 h => ?_) _ _ _ _ h
  refine r_aload_n (pc := 233) (i := 0) C dX6_comesTo_233 rfl rfl ?_
  refine r_getP (pc := 234) C fd_X6_62 rfl dX6_comesTo_234 h (fun p51 h => ?_)
  refine r_iconst (pc := 237) (v := 0) C dX6_comesTo_237 (by decide) ?_
  refine r_iald (pc := 238) C dX6_comesTo_238 h (fun v52 h => ?_)
  exact r_iret (pc := 239) C rfl dX6_comesTo_239 h E
theorem t_X6_comesTo {F : Nat} {σ : MM} {a0 : Nat} {x1 : Int32} {x2 : Int32} {r : Int32 × MM} (h : g_X6_comesTo F σ a0 x1 x2 = some r) : mT σ a0 = (5, 62) := by
  unfold g_X6_comesTo at h
  exact (r_ck h).1
