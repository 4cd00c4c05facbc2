/-! STRINGS: the walk of String.indexOf(int) -/
set_option maxRecDepth 100000
theorem yd_J0_indexOf : xYd yJ0_indexOf 1 := ⟨by decide +kernel, by decide +kernel, by decide +kernel⟩
theorem yd_J0_indexOf_2 : xYd yJ0_indexOf_2 2 := ⟨by decide +kernel, by decide +kernel, by decide +kernel⟩
theorem yd_J0_isLatin1 : xYd yJ0_isLatin1 0 := ⟨by decide +kernel, by decide +kernel, by decide +kernel⟩
theorem yd_J0_length : xYd yJ0_length 0 := ⟨by decide +kernel, by decide +kernel, by decide +kernel⟩
theorem yd_J0_coder : xYd yJ0_coder 0 := ⟨by decide +kernel, by decide +kernel, by decide +kernel⟩
theorem yd_J1_indexOf : xYd yJ1_indexOf 4 := ⟨by decide +kernel, by decide +kernel, by decide +kernel⟩
theorem yd_J1_canEncode : xYd yJ1_canEncode 1 := ⟨by decide +kernel, by decide +kernel, by decide +kernel⟩
theorem yd_J1_indexOfChar : xYd yJ1_indexOfChar 4 := ⟨by decide +kernel, by decide +kernel, by decide +kernel⟩
def sScan : List Int32 → Int32 → Nat → Int32
  | [], _, _ => -1
  | x :: t, b, j => if x = b then nI j else sScan t b (j + 1)
/-- String.indexOf(int) of the i-th constant -/
def sIx (i : Nat) (c : Int32) : Int32 := if c < 0 then -1 else if 255 < c then -1 else sScan (sByt.getD i []) c.toInt8.toInt32 0
theorem br_yes {c : Prop} [Decidable c] (h : c) : (if c then some () else none) = some () := if_pos h
theorem br_no {c : Prop} [Decidable c] (h : ¬ c) : (if c then none else some ()) = some () := if_neg h
theorem no_none {P : Prop} (h : (none : Option Unit) = some ()) : P := by cases h
theorem r_bret0 {B : Nat} {G : XG} {y : MethodName} {cc : ByteArray} {nL : Nat} {ret : Option FieldType} {d Mc Ms : Nat} {k n : Nat} {σ : MM} {pc : Nat} {lv : LV} (C : xC B G y cc nL ret d Mc Ms) (hr : ret = some .byte) (hdg : decode cc pc = .ok (.ireturn, 1)) (E : xEnd B G (some (.int 0)) σ k n) : xV B G k n σ pc lv [.int 0] := by
  obtain ⟨p, l, e, R, s, m, args, below, meth, c, D, tA, HB, Q⟩ := G
  intro H locs ls hZ hL hl hk hs
  have E : Q = _ := E
  rw [E]
  exact W.zret C.1 C.2.1 (C.2.2.1.trans hr) rfl (fun t ht _ => ⟨rfl, by rw [ht]; exact hZ⟩) hL hdg C.2.2.2.1
theorem m_coder {B : Nat} {σ : MM} (i : Nat) (hi : i < 2) : xMH B yJ0_coder cJ0_coder 1 (some .byte) 0 (fun HB => [.ref (HB.2.1 i)]) σ (some (.int 0)) := by
  refine xMH.of (by decide +kernel) (fun _ => (Nat.le_of_ble_eq_true rfl)) (fun _ => cat_ref cat_nil) (fun G C E => ?_)
  refine r_gets (pc := 0) C q479 dJ0_coder_0 ?_
  refine r_ifeq (α := Unit) (pc := 3) (tgt := 13) C dJ0_coder_3 (by decide) (br_no (by decide)) (fun h => no_none h) (fun _ => ?_)
  refine r_aloadR_n (pc := 6) (i := 0) C dJ0_coder_6 rfl rfl ?_
  refine r_scod (pc := 7) hi C q1911 dJ0_coder_7 ?_
  refine r_goto (pc := 10) (tgt := 14) C dJ0_coder_10 (by decide) ?_
  exact r_bret0 (pc := 14) C rfl dJ0_coder_14 E
theorem m_isLatin1 {B : Nat} {σ : MM} (i : Nat) (hi : i < 2) : xMH B yJ0_isLatin1 cJ0_isLatin1 1 (some .boolean) 0 (fun HB => [.ref (HB.2.1 i)]) σ (some (.int 1)) := by
  refine xMH.of (by decide +kernel) (fun _ => (Nat.le_of_ble_eq_true rfl)) (fun _ => cat_ref cat_nil) (fun G C E => ?_)
  refine r_gets (pc := 0) C q479 dJ0_isLatin1_0 ?_
  refine r_ifeq (α := Unit) (pc := 3) (tgt := 17) C dJ0_isLatin1_3 (by decide) (br_no (by decide)) (fun h => no_none h) (fun _ => ?_)
  refine r_aloadR_n (pc := 6) (i := 0) C dJ0_isLatin1_6 rfl rfl ?_
  refine r_scod (pc := 7) hi C q1911 dJ0_isLatin1_7 ?_
  refine r_ifne (α := Unit) (pc := 10) (tgt := 17) C dJ0_isLatin1_10 (by decide) (br_yes rfl) (fun h => no_none h) (fun _ => ?_)
  refine r_iconst (pc := 13) (v := 1) C dJ0_isLatin1_13 (by decide) ?_
  refine r_goto (pc := 14) (tgt := 18) C dJ0_isLatin1_14 (by decide) ?_
  exact r_zretL (pc := 18) C rfl dJ0_isLatin1_18 (Or.inr rfl) rfl E
theorem m_length {B : Nat} {σ : MM} (i : Nat) (hi : i < 2) {L : Int32} (hL : Int32.ofNat (sLen.getD i 0) = L) : xMH B yJ0_length cJ0_length 1 (some .int) 1 (fun HB => [.ref (HB.2.1 i)]) σ (some (.int L)) := by
  refine xMH.of (by decide +kernel) (fun _ => (Nat.le_of_ble_eq_true rfl)) (fun _ => cat_ref cat_nil) (fun G C E => ?_)
  refine r_aloadR_n (pc := 0) (i := 0) C dJ0_length_0 rfl rfl ?_
  refine r_sval (pc := 1) hi C q1912 dJ0_length_1 ?_
  refine r_slen (pc := 4) hi hL C dJ0_length_4 ?_
  refine r_aloadR_n (pc := 5) (i := 0) C dJ0_length_5 rfl rfl ?_
  refine r_callX (pc := 6) (As := []) (st := [.int L]) hi C (m_coder i hi) rfl rfl yd_J0_coder (lw_V q485 q486 q487 q124 q488) (Nat.le_of_ble_eq_true rfl) (Nat.le_of_ble_eq_true rfl) (Nat.le_of_ble_eq_true rfl) dJ0_length_6 (Nat.le_of_ble_eq_true rfl) (Nat.le_of_ble_eq_true rfl) ?_
  refine r_ishr (pc := 9) C dJ0_length_9 ?_
  rw [sb_shr0]
  exact r_iret (pc := 10) C rfl dJ0_length_10 rfl E
theorem m_canEncode {B : Nat} {σ : MM} (c : Int32) : xMH B yJ1_canEncode cJ1_canEncode 1 (some .boolean) 0 (fun _ => [.int c]) σ (some (.int (if c < 0 then 0 else if 255 < c then 0 else 1))) := by
  refine xMH.of (by decide +kernel) (fun _ => (Nat.le_of_ble_eq_true rfl)) (fun _ => cat_int cat_nil) (fun G C E => ?_)
  refine r_iload_n (pc := 0) (i := 0) C dJ1_canEncode_0 rfl rfl ?_
  by_cases h1 : c < 0
  · rw [if_pos h1] at E
    refine r_iflt (α := Unit) (pc := 1) (tgt := 15) C dJ1_canEncode_1 (by decide) (br_yes h1) (fun _ => ?_) (fun h => no_none h)
    refine r_iconst (pc := 15) (v := 0) C dJ1_canEncode_15 (by decide) ?_
    exact r_zretL (pc := 16) C rfl dJ1_canEncode_16 (Or.inl rfl) rfl E
  · rw [if_neg h1] at E
    refine r_iflt (α := Unit) (pc := 1) (tgt := 15) C dJ1_canEncode_1 (by decide) (br_no h1) (fun h => no_none h) (fun _ => ?_)
    refine r_iload_n (pc := 4) (i := 0) C dJ1_canEncode_4 rfl rfl ?_
    refine r_sipush (pc := 5) (v := 255) C dJ1_canEncode_5 (by decide) ?_
    by_cases h2 : 255 < c
    · rw [if_pos h2] at E
      refine r_icmpgt (α := Unit) (pc := 8) (tgt := 15) C dJ1_canEncode_8 (by decide) (br_yes h2) (fun _ => ?_) (fun h => no_none h)
      refine r_iconst (pc := 15) (v := 0) C dJ1_canEncode_15 (by decide) ?_
      exact r_zretL (pc := 16) C rfl dJ1_canEncode_16 (Or.inl rfl) rfl E
    · rw [if_neg h2] at E
      refine r_icmpgt (α := Unit) (pc := 8) (tgt := 15) C dJ1_canEncode_8 (by decide) (br_no h2) (fun h => no_none h) (fun _ => ?_)
      refine r_iconst (pc := 11) (v := 1) C dJ1_canEncode_11 (by decide) ?_
      refine r_goto (pc := 12) (tgt := 16) C dJ1_canEncode_12 (by decide) ?_
      exact r_zretL (pc := 16) C rfl dJ1_canEncode_16 (Or.inr rfl) rfl E
theorem m_scanLoop {B : Nat} {G : XG} {σ : MM} (i : Nat) (hi : i < 2) {N : Nat} (hN : sLen.getD i 0 = N) (hN2 : N ≤ 8) (hB : (sByt.getD i []).length = N) (b : Int32) (C : xC B G yJ1_indexOfChar cJ1_indexOfChar 6 (some .int) 0 0 0) : ∀ (u j : Nat), j + u = N → ∀ (r : Int32), r = sScan ((sByt.getD i []).drop j) b j → xEnd B G (some (.int r)) σ 0 0 → xV B G 0 0 σ 7 [(0, .ref ((gHB G).2.2 i)), (3, .int (nI N)), (4, .int b), (5, .int (nI j))] [] := by
  intro u
  induction u with
  | zero =>
    intro j hj r hr E
    rw [List.drop_eq_nil_of_le (by omega)] at hr
    subst hr
    refine r_iload (pc := 7) (i := 5) C dJ1_indexOfChar_7 rfl ?_
    refine r_iload_n (pc := 9) (i := 3) C dJ1_indexOfChar_9 rfl rfl ?_
    refine r_icmpge (α := Unit) (pc := 10) (tgt := 31) C dJ1_indexOfChar_10 (by decide) (br_no (nI_nlt (by omega) (by omega))) (fun _ => ?_) (fun h => no_none h)
    refine r_iconst (pc := 31) (v := (-1)) C dJ1_indexOfChar_31 (by decide) ?_
    exact r_iret (pc := 32) C rfl dJ1_indexOfChar_32 rfl E
  | succ u ih =>
    intro j hj r hr E
    have hjl : j < (sByt.getD i []).length := by omega
    rw [List.drop_eq_getElem_cons hjl] at hr
    have hcl : (nI j).toNatClampNeg = j := nI_clamp (by omega)
    have hix : ix (nI j) (sLen.getD i 0) := ⟨nI_pos (by omega), by rw [hcl]; omega⟩
    have hget : (sByt.getD i []).getD (nI j).toNatClampNeg 0 = (sByt.getD i [])[j] := by rw [hcl, List.getD_eq_getElem?_getD, List.getElem?_eq_getElem hjl]; rfl
    refine r_iload (pc := 7) (i := 5) C dJ1_indexOfChar_7 rfl ?_
    refine r_iload_n (pc := 9) (i := 3) C dJ1_indexOfChar_9 rfl rfl ?_
    refine r_icmpge (α := Unit) (pc := 10) (tgt := 31) C dJ1_indexOfChar_10 (by decide) (br_yes (nI_lt (by omega) (by omega))) (fun h => no_none h) (fun _ => ?_)
    refine r_aloadR_n (pc := 13) (i := 0) C dJ1_indexOfChar_13 rfl rfl ?_
    refine r_iload (pc := 14) (i := 5) C dJ1_indexOfChar_14 rfl ?_
    refine r_sbald (pc := 16) (j := 0) hi C hix dJ1_indexOfChar_16 ?_
    rw [hget]
    refine r_iload (pc := 17) (i := 4) C dJ1_indexOfChar_17 rfl ?_
    unfold sScan at hr
    by_cases hc : (sByt.getD i [])[j] = b
    · rw [if_pos hc] at hr
      subst hr
      refine r_icmpne (α := Unit) (pc := 19) (tgt := 25) C dJ1_indexOfChar_19 (by decide) (br_yes hc) (fun h => no_none h) (fun _ => ?_)
      refine r_iload (pc := 22) (i := 5) C dJ1_indexOfChar_22 rfl ?_
      exact r_iret (pc := 24) C rfl dJ1_indexOfChar_24 rfl E
    · rw [if_neg hc] at hr
      refine r_icmpne (α := Unit) (pc := 19) (tgt := 25) C dJ1_indexOfChar_19 (by decide) (br_no hc) (fun _ => ?_) (fun h => no_none h)
      refine r_iinc (pc := 25) (i := 5) (v := (nI j + 1)) C dJ1_indexOfChar_25 rfl rfl (by decide) ?_
      rw [nI_1]
      refine r_goto (pc := 28) (tgt := 7) C dJ1_indexOfChar_28 (by decide) ?_
      refine r_pick (lv' := [(0, .ref ((gHB G).2.2 i)), (3, .int (nI N)), (4, .int b), (5, .int (nI (j + 1)))]) [0, 3, 4, 5] rfl ?_
      exact ih (j + 1) (by omega) r hr E
theorem m_indexOfChar {B : Nat} {σ : MM} (i : Nat) (hi : i < 2) {N : Nat} (hN : sLen.getD i 0 = N) (hN2 : N ≤ 8) (hB : (sByt.getD i []).length = N) (c : Int32) : xMH B yJ1_indexOfChar cJ1_indexOfChar 6 (some .int) 0 (fun HB => [.ref (HB.2.2 i), .int c, .int 0, .int (nI N)]) σ (some (.int (sScan (sByt.getD i []) c.toInt8.toInt32 0))) := by
  refine xMH.of (by decide +kernel) (fun _ => (Nat.le_of_ble_eq_true rfl)) (fun _ => cat_ref (cat_int (cat_int (cat_int cat_nil)))) (fun G C E => ?_)
  refine r_iload_n (pc := 0) (i := 1) C dJ1_indexOfChar_0 rfl rfl ?_
  refine r_i2b (pc := 1) C dJ1_indexOfChar_1 ?_
  refine r_istore (pc := 2) (i := 4) C dJ1_indexOfChar_2 (by decide) ?_
  refine r_iload_n (pc := 4) (i := 2) C dJ1_indexOfChar_4 rfl rfl ?_
  refine r_istore (pc := 5) (i := 5) C dJ1_indexOfChar_5 (by decide) ?_
  refine r_pick (lv' := [(0, .ref ((gHB G).2.2 i)), (3, .int (nI N)), (4, .int c.toInt8.toInt32), (5, .int (nI 0))]) [0, 3, 4, 5] rfl ?_
  exact m_scanLoop i hi hN hN2 hB _ C N 0 (by omega) _ rfl E
theorem m_l1IndexOf {B : Nat} {σ : MM} (i : Nat) (hi : i < 2) {N : Nat} (hN : sLen.getD i 0 = N) (h0 : 0 < N) (hN2 : N ≤ 8) (hB : (sByt.getD i []).length = N) (c : Int32) : xMH B yJ1_indexOf cJ1_indexOf 4 (some .int) 1 (fun HB => [.ref (HB.2.2 i), .int c, .int 0, .int (nI N)]) σ (some (.int (sIx i c))) := by
  refine xMH.of (by decide +kernel) (fun _ => (Nat.le_of_ble_eq_true rfl)) (fun _ => cat_ref (cat_int (cat_int (cat_int cat_nil)))) (fun G C E => ?_)
  refine r_iload_n (pc := 0) (i := 1) C dJ1_indexOf_0 rfl rfl ?_
  refine r_callY (pc := 1) (Av := [.int c]) (st := []) C (m_canEncode c) rfl rfl rfl yd_J1_canEncode (lw_S q492 q493 q125 q494) (Nat.le_of_ble_eq_true rfl) (Nat.le_of_ble_eq_true rfl) (Nat.le_of_ble_eq_true rfl) dJ1_indexOf_1 (Nat.le_of_ble_eq_true rfl) (Nat.le_of_ble_eq_true rfl) ?_
  unfold sIx at E
  have key : ¬ c < 0 → ¬ 255 < c → xEnd B G (some (.int (sScan (sByt.getD i []) c.toInt8.toInt32 0))) σ 0 0 → xV B G 0 0 σ 9 (xLoc 0 [.ref ((gHB G).2.2 i), .int c, .int 0, .int (nI N)]) [] := by
    intro _ _ E
    refine r_iload_n (pc := 9) (i := 2) C dJ1_indexOf_9 rfl rfl ?_
    refine r_iconst (pc := 10) (v := 0) C dJ1_indexOf_10 (by decide) ?_
    refine r_mmax (pc := 11) C q495 q496 q126 q497 (Nat.le_of_ble_eq_true rfl) (Nat.le_of_ble_eq_true rfl) (Nat.le_of_ble_eq_true rfl) (Nat.le_of_ble_eq_true rfl) dJ1_indexOf_11 ?_
    refine r_istore_n (pc := 14) (i := 2) C dJ1_indexOf_14 rfl (by decide) ?_
    refine r_iload_n (pc := 15) (i := 3) C dJ1_indexOf_15 rfl rfl ?_
    refine r_aloadR_n (pc := 16) (i := 0) C dJ1_indexOf_16 rfl rfl ?_
    refine r_slen (pc := 17) (v := nI N) hi (by rw [hN]; rfl) C dJ1_indexOf_17 ?_
    refine r_mmin (pc := 18) C q498 q499 q126 q500 (Nat.le_of_ble_eq_true rfl) (Nat.le_of_ble_eq_true rfl) (Nat.le_of_ble_eq_true rfl) (Nat.le_of_ble_eq_true rfl) dJ1_indexOf_18 ?_
    refine r_istore_n (pc := 21) (i := 3) C dJ1_indexOf_21 rfl (by decide) ?_
    have e1 : jmax 0 0 = 0 := by decide
    have e2 : jmin (nI N) (nI N) = nI N := if_neg (nI_nlt (Nat.le_refl N) (by omega))
    rw [e1, e2]
    refine r_iload_n (pc := 22) (i := 2) C dJ1_indexOf_22 rfl rfl ?_
    refine r_iload_n (pc := 23) (i := 3) C dJ1_indexOf_23 rfl rfl ?_
    refine r_icmplt (α := Unit) (pc := 24) (tgt := 29) C dJ1_indexOf_24 (by decide) (br_yes (by rw [← nI_0]; exact nI_lt h0 (by omega))) (fun _ => ?_) (fun h => no_none h)
    refine r_aloadR_n (pc := 29) (i := 0) C dJ1_indexOf_29 rfl rfl ?_
    refine r_iload_n (pc := 30) (i := 1) C dJ1_indexOf_30 rfl rfl ?_
    refine r_iload_n (pc := 31) (i := 2) C dJ1_indexOf_31 rfl rfl ?_
    refine r_iload_n (pc := 32) (i := 3) C dJ1_indexOf_32 rfl rfl ?_
    refine r_callY (pc := 33) (Av := [.ref ((gHB G).2.2 i), .int c, .int 0, .int (nI N)]) (st := []) C (m_indexOfChar i hi hN hN2 hB c) rfl rfl rfl yd_J1_indexOfChar (lw_S q501 q502 q125 q503) (Nat.le_of_ble_eq_true rfl) (Nat.le_of_ble_eq_true rfl) (Nat.le_of_ble_eq_true rfl) dJ1_indexOf_33 (Nat.le_of_ble_eq_true rfl) (Nat.le_of_ble_eq_true rfl) ?_
    exact r_iret (pc := 36) C rfl dJ1_indexOf_36 rfl E
  by_cases h1 : c < 0
  · rw [if_pos h1] at E ⊢
    refine r_ifne (α := Unit) (pc := 4) (tgt := 9) C dJ1_indexOf_4 (by decide) (br_yes rfl) (fun h => no_none h) (fun _ => ?_)
    refine r_iconst (pc := 7) (v := (-1)) C dJ1_indexOf_7 (by decide) ?_
    exact r_iret (pc := 8) C rfl dJ1_indexOf_8 rfl E
  · rw [if_neg h1] at E ⊢
    by_cases h2 : 255 < c
    · rw [if_pos h2] at E ⊢
      refine r_ifne (α := Unit) (pc := 4) (tgt := 9) C dJ1_indexOf_4 (by decide) (br_yes rfl) (fun h => no_none h) (fun _ => ?_)
      refine r_iconst (pc := 7) (v := (-1)) C dJ1_indexOf_7 (by decide) ?_
      exact r_iret (pc := 8) C rfl dJ1_indexOf_8 rfl E
    · rw [if_neg h2] at E ⊢
      refine r_ifne (α := Unit) (pc := 4) (tgt := 9) C dJ1_indexOf_4 (by decide) (br_no (by decide)) (fun _ => ?_) (fun h => no_none h)
      exact key h1 h2 E
theorem m_indexOf2 {B : Nat} {σ : MM} (i : Nat) (hi : i < 2) {N : Nat} (hN : sLen.getD i 0 = N) (h0 : 0 < N) (hN2 : N ≤ 8) (hB : (sByt.getD i []).length = N) (c : Int32) : xMH B yJ0_indexOf_2 cJ0_indexOf_2 3 (some .int) 2 (fun HB => [.ref (HB.2.1 i), .int c, .int 0]) σ (some (.int (sIx i c))) := by
  refine xMH.of (by decide +kernel) (fun _ => (Nat.le_of_ble_eq_true rfl)) (fun _ => cat_ref (cat_int (cat_int cat_nil))) (fun G C E => ?_)
  refine r_aloadR_n (pc := 0) (i := 0) C dJ0_indexOf_2_0 rfl rfl ?_
  refine r_callX (pc := 1) (As := []) (st := []) hi C (m_isLatin1 i hi) rfl rfl yd_J0_isLatin1 (lw_V q475 q476 q477 q124 q478) (Nat.le_of_ble_eq_true rfl) (Nat.le_of_ble_eq_true rfl) (Nat.le_of_ble_eq_true rfl) dJ0_indexOf_2_1 (Nat.le_of_ble_eq_true rfl) (Nat.le_of_ble_eq_true rfl) ?_
  refine r_ifeq (α := Unit) (pc := 4) (tgt := 23) C dJ0_indexOf_2_4 (by decide) (br_no (by decide)) (fun h => no_none h) (fun _ => ?_)
  refine r_aloadR_n (pc := 7) (i := 0) C dJ0_indexOf_2_7 rfl rfl ?_
  refine r_sval (pc := 8) hi C q1912 dJ0_indexOf_2_8 ?_
  refine r_iload_n (pc := 11) (i := 1) C dJ0_indexOf_2_11 rfl rfl ?_
  refine r_iload_n (pc := 12) (i := 2) C dJ0_indexOf_2_12 rfl rfl ?_
  refine r_aloadR_n (pc := 13) (i := 0) C dJ0_indexOf_2_13 rfl rfl ?_
  refine r_callX (pc := 14) (As := []) (st := [.int 0, .int c, .ref ((gHB G).2.2 i)]) hi C (m_length (L := nI N) i hi (by rw [hN]; rfl)) rfl rfl yd_J0_length (lw_V q481 q482 q483 q124 q484) (Nat.le_of_ble_eq_true rfl) (Nat.le_of_ble_eq_true rfl) (Nat.le_of_ble_eq_true rfl) dJ0_indexOf_2_14 (Nat.le_of_ble_eq_true rfl) (Nat.le_of_ble_eq_true rfl) ?_
  refine r_callY (pc := 17) (Av := [.ref ((gHB G).2.2 i), .int c, .int 0, .int (nI N)]) (st := []) C (m_l1IndexOf i hi hN h0 hN2 hB c) rfl rfl rfl yd_J1_indexOf (lw_S q489 q490 q125 q491) (Nat.le_of_ble_eq_true rfl) (Nat.le_of_ble_eq_true rfl) (Nat.le_of_ble_eq_true rfl) dJ0_indexOf_2_17 (Nat.le_of_ble_eq_true rfl) (Nat.le_of_ble_eq_true rfl) ?_
  refine r_goto (pc := 20) (tgt := 36) C dJ0_indexOf_2_20 (by decide) ?_
  exact r_iret (pc := 36) C rfl dJ0_indexOf_2_36 rfl E
theorem m_indexOf {B : Nat} {σ : MM} (i : Nat) (hi : i < 2) (c : Int32) : xMH B yJ0_indexOf cJ0_indexOf 2 (some .int) 3 (fun HB => [.ref (HB.2.1 i), .int c]) σ (some (.int (sIx i c))) := by
  refine xMH.of (by decide +kernel) (fun _ => (Nat.le_of_ble_eq_true rfl)) (fun _ => cat_ref (cat_int cat_nil)) (fun G C E => ?_)
  refine r_aloadR_n (pc := 0) (i := 0) C dJ0_indexOf_0 rfl rfl ?_
  refine r_iload_n (pc := 1) (i := 1) C dJ0_indexOf_1 rfl rfl ?_
  refine r_iconst (pc := 2) (v := 0) C dJ0_indexOf_2 (by decide) ?_
  have hm : xMH B yJ0_indexOf_2 cJ0_indexOf_2 3 (some .int) 2 (fun HB => [.ref (HB.2.1 i), .int c, .int 0]) σ (some (.int (sIx i c))) := by
    rcases (show i = 0 ∨ i = 1 by omega) with rfl | rfl
    · exact m_indexOf2 (N := 8) 0 hi rfl (by decide) (by decide) rfl c
    · exact m_indexOf2 (N := 4) 1 hi rfl (by decide) (by decide) rfl c
  refine r_callX (pc := 3) (As := [.int c, .int 0]) (st := []) hi C hm rfl rfl yd_J0_indexOf_2 (lw_V q471 q472 q473 q124 q474) (Nat.le_of_ble_eq_true rfl) (Nat.le_of_ble_eq_true rfl) (Nat.le_of_ble_eq_true rfl) dJ0_indexOf_3 (Nat.le_of_ble_eq_true rfl) (Nat.le_of_ble_eq_true rfl) ?_
  exact r_iret (pc := 6) C rfl dJ0_indexOf_6 rfl E
