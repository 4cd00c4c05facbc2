set_option maxRecDepth 100000
def g_J6_bitCount (F : Nat) (σ : MM) (x0 : Int32) : Option (Int32 × MM) := some (((((((((x0 - ((ushr x0 1) &&& 1431655765)) &&& 858993459) + ((ushr (x0 - ((ushr x0 1) &&& 1431655765)) 2) &&& 858993459)) + (ushr (((x0 - ((ushr x0 1) &&& 1431655765)) &&& 858993459) + ((ushr (x0 - ((ushr x0 1) &&& 1431655765)) 2) &&& 858993459)) 4)) &&& 252645135) + (ushr (((((x0 - ((ushr x0 1) &&& 1431655765)) &&& 858993459) + ((ushr (x0 - ((ushr x0 1) &&& 1431655765)) 2) &&& 858993459)) + (ushr (((x0 - ((ushr x0 1) &&& 1431655765)) &&& 858993459) + ((ushr (x0 - ((ushr x0 1) &&& 1431655765)) 2) &&& 858993459)) 4)) &&& 252645135) 8)) + (ushr ((((((x0 - ((ushr x0 1) &&& 1431655765)) &&& 858993459) + ((ushr (x0 - ((ushr x0 1) &&& 1431655765)) 2) &&& 858993459)) + (ushr (((x0 - ((ushr x0 1) &&& 1431655765)) &&& 858993459) + ((ushr (x0 - ((ushr x0 1) &&& 1431655765)) 2) &&& 858993459)) 4)) &&& 252645135) + (ushr (((((x0 - ((ushr x0 1) &&& 1431655765)) &&& 858993459) + ((ushr (x0 - ((ushr x0 1) &&& 1431655765)) 2) &&& 858993459)) + (ushr (((x0 - ((ushr x0 1) &&& 1431655765)) &&& 858993459) + ((ushr (x0 - ((ushr x0 1) &&& 1431655765)) 2) &&& 858993459)) 4)) &&& 252645135) 8)) 16)) &&& 63), σ)
theorem w_J6_bitCount {B F : Nat} {d : Nat} {σ : MM} {x0 : Int32} {rf : Int32} {σf : MM} (hd : 0 ≤ d) (h : g_J6_bitCount F σ x0 = some (rf, σf)) : xMA B yJ6_bitCount cJ6_bitCount 1 (some .int) d 0 0 [.int x0] σ (some (.int rf)) σf := by
  refine xMA.of (by decide +kernel) (Nat.le_of_ble_eq_true rfl) (cat_int cat_nil) (fun G C E => ?_)
  unfold g_J6_bitCount at h
  refine r_iload_n (pc := 0) (i := 0) C dJ6_bitCount_0 rfl rfl ?_
  refine r_iload_n (pc := 1) (i := 0) C dJ6_bitCount_1 rfl rfl ?_
  refine r_iconst (pc := 2) (v := 1) C dJ6_bitCount_2 (by decide) ?_
  refine r_iushr (pc := 3) C dJ6_bitCount_3 ?_
  refine r_ldc_w (pc := 4) C q1157 dJ6_bitCount_4 ?_
  refine r_iand (pc := 7) C dJ6_bitCount_7 ?_
  refine r_isub (pc := 8) C dJ6_bitCount_8 ?_
  refine r_istore_n (pc := 9) (i := 0) C dJ6_bitCount_9 rfl (by decide) ?_
  refine r_iload_n (pc := 10) (i := 0) C dJ6_bitCount_10 rfl rfl ?_
  refine r_ldc_w (pc := 11) C q1158 dJ6_bitCount_11 ?_
  refine r_iand (pc := 14) C dJ6_bitCount_14 ?_
  refine r_iload_n (pc := 15) (i := 0) C dJ6_bitCount_15 rfl rfl ?_
  refine r_iconst (pc := 16) (v := 2) C dJ6_bitCount_16 (by decide) ?_
  refine r_iushr (pc := 17) C dJ6_bitCount_17 ?_
  refine r_ldc_w (pc := 18) C q1158 dJ6_bitCount_18 ?_
  refine r_iand (pc := 21) C dJ6_bitCount_21 ?_
  refine r_iadd (pc := 22) C dJ6_bitCount_22 ?_
  refine r_istore_n (pc := 23) (i := 0) C dJ6_bitCount_23 rfl (by decide) ?_
  refine r_iload_n (pc := 24) (i := 0) C dJ6_bitCount_24 rfl rfl ?_
  refine r_iload_n (pc := 25) (i := 0) C dJ6_bitCount_25 rfl rfl ?_
  refine r_iconst (pc := 26) (v := 4) C dJ6_bitCount_26 (by decide) ?_
  refine r_iushr (pc := 27) C dJ6_bitCount_27 ?_
  refine r_iadd (pc := 28) C dJ6_bitCount_28 ?_
  refine r_ldc_w (pc := 29) C q1159 dJ6_bitCount_29 ?_
  refine r_iand (pc := 32) C dJ6_bitCount_32 ?_
  refine r_istore_n (pc := 33) (i := 0) C dJ6_bitCount_33 rfl (by decide) ?_
  refine r_iload_n (pc := 34) (i := 0) C dJ6_bitCount_34 rfl rfl ?_
  refine r_iload_n (pc := 35) (i := 0) C dJ6_bitCount_35 rfl rfl ?_
  refine r_bipush (pc := 36) (v := 8) C dJ6_bitCount_36 (by decide) ?_
  refine r_iushr (pc := 38) C dJ6_bitCount_38 ?_
  refine r_iadd (pc := 39) C dJ6_bitCount_39 ?_
  refine r_istore_n (pc := 40) (i := 0) C dJ6_bitCount_40 rfl (by decide) ?_
  refine r_iload_n (pc := 41) (i := 0) C dJ6_bitCount_41 rfl rfl ?_
  refine r_iload_n (pc := 42) (i := 0) C dJ6_bitCount_42 rfl rfl ?_
  refine r_bipush (pc := 43) (v := 16) C dJ6_bitCount_43 (by decide) ?_
  refine r_iushr (pc := 45) C dJ6_bitCount_45 ?_
  refine r_iadd (pc := 46) C dJ6_bitCount_46 ?_
  refine r_istore_n (pc := 47) (i := 0) C dJ6_bitCount_47 rfl (by decide) ?_
  refine r_iload_n (pc := 48) (i := 0) C dJ6_bitCount_48 rfl rfl ?_
  refine r_bipush (pc := 49) (v := 63) C dJ6_bitCount_49 (by decide) ?_
  refine r_iand (pc := 51) C dJ6_bitCount_51 ?_
  exact r_iret (pc := 52) C rfl dJ6_bitCount_52 h E
def g_J6_numberOfTrailingZeros (F : Nat) (σ : MM) (x0 : Int32) : Option (Int32 × MM) := if 0 < ((x0 ^^^ (-1)) &&& (x0 - 1)) then (jn (fun (y0_2 : Int32) (y1_3 : Int32) (σ1 : MM) => jn (fun (y0_6 : Int32) (y1_7 : Int32) (σ5 : MM) => jn (fun (y0_10 : Int32) (y1_11 : Int32) (σ9 : MM) => jn (fun (y0_14 : Int32) (y1_15 : Int32) (σ13 : MM) => some ((y1_15 + (ushr y0_14 1)), σ13)) (fun k16 => if 4 < y0_10 then (k16 ((ushr y0_10 2)) ((y1_11 + 2)) σ9) else (k16 y0_10 y1_11 σ9))) (fun k12 => if 16 < y0_6 then (k12 ((ushr y0_6 4)) ((y1_7 + 4)) σ5) else (k12 y0_6 y1_7 σ5))) (fun k8 => if 256 < y0_2 then (k8 ((ushr y0_2 8)) ((y1_3 + 8)) σ1) else (k8 y0_2 y1_3 σ1))) (fun k4 => if 65536 < ((x0 ^^^ (-1)) &&& (x0 - 1)) then (k4 ((ushr ((x0 ^^^ (-1)) &&& (x0 - 1)) 16)) ((1 + 16)) σ) else (k4 (((x0 ^^^ (-1)) &&& (x0 - 1))) 1 σ))) else (some ((((x0 ^^^ (-1)) &&& (x0 - 1)) &&& 32), σ))
theorem w_J6_numberOfTrailingZeros {B F : Nat} {d : Nat} {σ : MM} {x0 : Int32} {rf : Int32} {σf : MM} (hd : 0 ≤ d) (h : g_J6_numberOfTrailingZeros F σ x0 = some (rf, σf)) : xMA B yJ6_numberOfTrailingZeros cJ6_numberOfTrailingZeros 2 (some .int) d 0 0 [.int x0] σ (some (.int rf)) σf := by
  refine xMA.of (by decide +kernel) (Nat.le_of_ble_eq_true rfl) (cat_int cat_nil) (fun G C E => ?_)
  unfold g_J6_numberOfTrailingZeros at h
  refine r_iload_n (pc := 0) (i := 0) C dJ6_numberOfTrailingZeros_0 rfl rfl ?_
  refine r_iconst (pc := 1) (v := (-1)) C dJ6_numberOfTrailingZeros_1 (by decide) ?_
  refine r_ixor (pc := 2) C dJ6_numberOfTrailingZeros_2 ?_
  refine r_iload_n (pc := 3) (i := 0) C dJ6_numberOfTrailingZeros_3 rfl rfl ?_
  refine r_iconst (pc := 4) (v := 1) C dJ6_numberOfTrailingZeros_4 (by decide) ?_
  refine r_isub (pc := 5) C dJ6_numberOfTrailingZeros_5 ?_
  refine r_iand (pc := 6) C dJ6_numberOfTrailingZeros_6 ?_
  refine r_istore_n (pc := 7) (i := 0) C dJ6_numberOfTrailingZeros_7 rfl (by decide) ?_
  refine r_iload_n (pc := 8) (i := 0) C dJ6_numberOfTrailingZeros_8 rfl rfl ?_
  refine r_ifgt (pc := 9) (tgt := 17) C dJ6_numberOfTrailingZeros_9 (by decide) h (fun h => ?_) (fun h => ?_)
  · refine r_iconst (pc := 17) (v := 1) C dJ6_numberOfTrailingZeros_17 (by decide) ?_
    refine r_istore_n (pc := 18) (i := 1) C dJ6_numberOfTrailingZeros_18 rfl (by decide) ?_
    refine r_iload_n (pc := 19) (i := 0) C dJ6_numberOfTrailingZeros_19 rfl rfl ?_
    refine r_ldc_w (pc := 20) C q1189 dJ6_numberOfTrailingZeros_20 ?_
    refine r_jn (fun k9 => ∀ (y0_2 : Int32) (y1_3 : Int32) (σ1 : MM), k9 y0_2 y1_3 σ1 = some (rf, σf) → xV B G 0 0 σ1 34 [(0, .int y0_2), (1, .int y1_3)] []) h (fun y0_2 y1_3 σ1 h => ?_) (fun k4 hk4 h => ?_)
    · refine r_iload_n (pc := 34) (i := 0) C dJ6_numberOfTrailingZeros_34 rfl rfl ?_
      refine r_sipush (pc := 35) (v := 256) C dJ6_numberOfTrailingZeros_35 (by decide) ?_
      refine r_jn (fun k9 => ∀ (y0_6 : Int32) (y1_7 : Int32) (σ5 : MM), k9 y0_6 y1_7 σ5 = some (rf, σf) → xV B G 0 0 σ5 49 [(0, .int y0_6), (1, .int y1_7)] []) h (fun y0_6 y1_7 σ5 h => ?_) (fun k8 hk8 h => ?_)
      · refine r_iload_n (pc := 49) (i := 0) C dJ6_numberOfTrailingZeros_49 rfl rfl ?_
        refine r_bipush (pc := 50) (v := 16) C dJ6_numberOfTrailingZeros_50 (by decide) ?_
        refine r_jn (fun k9 => ∀ (y0_10 : Int32) (y1_11 : Int32) (σ9 : MM), k9 y0_10 y1_11 σ9 = some (rf, σf) → xV B G 0 0 σ9 62 [(0, .int y0_10), (1, .int y1_11)] []) h (fun y0_10 y1_11 σ9 h => ?_) (fun k12 hk12 h => ?_)
        · refine r_iload_n (pc := 62) (i := 0) C dJ6_numberOfTrailingZeros_62 rfl rfl ?_
          refine r_iconst (pc := 63) (v := 4) C dJ6_numberOfTrailingZeros_63 (by decide) ?_
          refine r_jn (fun k9 => ∀ (y0_14 : Int32) (y1_15 : Int32) (σ13 : MM), k9 y0_14 y1_15 σ13 = some (rf, σf) → xV B G 0 0 σ13 74 [(0, .int y0_14), (1, .int y1_15)] []) h (fun y0_14 y1_15 σ13 h => ?_) (fun k16 hk16 h => ?_)
          · refine r_iload_n (pc := 74) (i := 1) C dJ6_numberOfTrailingZeros_74 rfl rfl ?_
            refine r_iload_n (pc := 75) (i := 0) C dJ6_numberOfTrailingZeros_75 rfl rfl ?_
            refine r_iconst (pc := 76) (v := 1) C dJ6_numberOfTrailingZeros_76 (by decide) ?_
            refine r_iushr (pc := 77) C dJ6_numberOfTrailingZeros_77 ?_
            refine r_iadd (pc := 78) C dJ6_numberOfTrailingZeros_78 ?_
            exact r_iret (pc := 79) C rfl dJ6_numberOfTrailingZeros_79 h E
          · refine r_icmple (pc := 64) (tgt := 74) C dJ6_numberOfTrailingZeros_64 (by decide) h (fun h => ?_) (fun h => ?_)
            · refine r_pick (lv' := [(0, .int y0_10), (1, .int y1_11)]) [0, 1] rfl ?_
              exact hk16 _ _ _ h
            · refine r_iinc (pc := 67) (i := 1) (v := (y1_11 + 2)) C dJ6_numberOfTrailingZeros_67 rfl rfl (by decide) ?_
              refine r_iload_n (pc := 70) (i := 0) C dJ6_numberOfTrailingZeros_70 rfl rfl ?_
              refine r_iconst (pc := 71) (v := 2) C dJ6_numberOfTrailingZeros_71 (by decide) ?_
              refine r_iushr (pc := 72) C dJ6_numberOfTrailingZeros_72 ?_
              refine r_istore_n (pc := 73) (i := 0) C dJ6_numberOfTrailingZeros_73 rfl (by decide) ?_
              refine r_pick (lv' := [(0, .int (ushr y0_10 2)), (1, .int (y1_11 + 2))]) [0, 1] rfl ?_
              exact hk16 _ _ _ h
        · refine r_icmple (pc := 52) (tgt := 62) C dJ6_numberOfTrailingZeros_52 (by decide) h (fun h => ?_) (fun h => ?_)
          · refine r_pick (lv' := [(0, .int y0_6), (1, .int y1_7)]) [0, 1] rfl ?_
            exact hk12 _ _ _ h
          · refine r_iinc (pc := 55) (i := 1) (v := (y1_7 + 4)) C dJ6_numberOfTrailingZeros_55 rfl rfl (by decide) ?_
            refine r_iload_n (pc := 58) (i := 0) C dJ6_numberOfTrailingZeros_58 rfl rfl ?_
            refine r_iconst (pc := 59) (v := 4) C dJ6_numberOfTrailingZeros_59 (by decide) ?_
            refine r_iushr (pc := 60) C dJ6_numberOfTrailingZeros_60 ?_
            refine r_istore_n (pc := 61) (i := 0) C dJ6_numberOfTrailingZeros_61 rfl (by decide) ?_
            refine r_pick (lv' := [(0, .int (ushr y0_6 4)), (1, .int (y1_7 + 4))]) [0, 1] rfl ?_
            exact hk12 _ _ _ h
      · refine r_icmple (pc := 38) (tgt := 49) C dJ6_numberOfTrailingZeros_38 (by decide) h (fun h => ?_) (fun h => ?_)
        · refine r_pick (lv' := [(0, .int y0_2), (1, .int y1_3)]) [0, 1] rfl ?_
          exact hk8 _ _ _ h
        · refine r_iinc (pc := 41) (i := 1) (v := (y1_3 + 8)) C dJ6_numberOfTrailingZeros_41 rfl rfl (by decide) ?_
          refine r_iload_n (pc := 44) (i := 0) C dJ6_numberOfTrailingZeros_44 rfl rfl ?_
          refine r_bipush (pc := 45) (v := 8) C dJ6_numberOfTrailingZeros_45 (by decide) ?_
          refine r_iushr (pc := 47) C dJ6_numberOfTrailingZeros_47 ?_
          refine r_istore_n (pc := 48) (i := 0) C dJ6_numberOfTrailingZeros_48 rfl (by decide) ?_
          refine r_pick (lv' := [(0, .int (ushr y0_2 8)), (1, .int (y1_3 + 8))]) [0, 1] rfl ?_
          exact hk8 _ _ _ h
    · refine r_icmple (pc := 23) (tgt := 34) C dJ6_numberOfTrailingZeros_23 (by decide) h (fun h => ?_) (fun h => ?_)
      · refine r_pick (lv' := [(0, .int ((x0 ^^^ (-1)) &&& (x0 - 1))), (1, .int 1)]) [0, 1] rfl ?_
        exact hk4 _ _ _ h
      · refine r_iinc (pc := 26) (i := 1) (v := (1 + 16)) C dJ6_numberOfTrailingZeros_26 rfl rfl (by decide) ?_
        refine r_iload_n (pc := 29) (i := 0) C dJ6_numberOfTrailingZeros_29 rfl rfl ?_
        refine r_bipush (pc := 30) (v := 16) C dJ6_numberOfTrailingZeros_30 (by decide) ?_
        refine r_iushr (pc := 32) C dJ6_numberOfTrailingZeros_32 ?_
        refine r_istore_n (pc := 33) (i := 0) C dJ6_numberOfTrailingZeros_33 rfl (by decide) ?_
        refine r_pick (lv' := [(0, .int (ushr ((x0 ^^^ (-1)) &&& (x0 - 1)) 16)), (1, .int (1 + 16))]) [0, 1] rfl ?_
        exact hk4 _ _ _ h
  · refine r_iload_n (pc := 12) (i := 0) C dJ6_numberOfTrailingZeros_12 rfl rfl ?_
    refine r_bipush (pc := 13) (v := 32) C dJ6_numberOfTrailingZeros_13 (by decide) ?_
    refine r_iand (pc := 15) C dJ6_numberOfTrailingZeros_15 ?_
    exact r_iret (pc := 16) C rfl dJ6_numberOfTrailingZeros_16 h E
