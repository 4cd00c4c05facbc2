/-! THE HOLDER'S HOUR -/
def rD (D x y : Nat) : Prop := x = 4 ∨ (x = D ∧ (y < 11 ∨ 13 < y)) ∨ (D + 3 ≤ x ∧ x ≤ D + 14)
def rN (x _y : Nat) : Prop := x = 86 ∨ x = 103 ∨ x = 104
theorem rD_rC {D : Nat} (hD : isD D) (x y : Nat) (h : rD D x y) : rC x y := by
  unfold rD at h
  unfold rC
  unfold isD at hD
  omega
theorem rN_rM (x y : Nat) (h : rN x y) : rM x y := by
  unfold rN at h
  unfold rM
  omega
def outS (xs ys : Nat → Nat) (S : DS) (a b : Nat) : DS := (S.1, S.2.1, S.2.2.1, upQ (upQ (upQ (upQ S.2.2.2 0 10) 1 b) 2 a) 3 (wayS xs ys a b))
def stayS (L : LW) (xs ys : Nat → Nat) (S : DS) : DS :=
  if 6 ≤ S.2.2.2 4 ∧ S.2.2.2 4 ≤ 19 ∧ S.2.2.2 6 = 0 ∧ (nxtS L xs ys (hadS S (S.2.2.2 0)) (S.2.2.2 0) 10).1 < 10 then outS xs ys (hadS S (S.2.2.2 0)) (S.2.2.2 0) (nxtS L xs ys (hadS S (S.2.2.2 0)) (S.2.2.2 0) 10).1 else hadS S (S.2.2.2 0)
theorem DW.had {t Y p : Nat} {S : DS} (h : DW t Y S) : DW t Y (hadS S p) := h
theorem wayS_b {xs ys : Nat → Nat} {a b : Nat} (h : ∀ p, p < 10 → xs p < 10 ∧ ys p < 10) (ha : a < 10) (hb : b < 10) : 1 ≤ wayS xs ys a b ∧ wayS xs ys a b ≤ 18 := by
  have h1 := h a ha
  have h2 := h b hb
  unfold wayS
  omega
theorem DW.out {t Y a b : Nat} {S : DS} {xs ys : Nat → Nat} (h : DW t Y S) (hx : ∀ p, p < 10 → xs p < 10 ∧ ys p < 10) (ha : a < 10) (hb : b < 10) : DW t Y (outS xs ys S a b) := by
  obtain ⟨d1, d2, d3, d4, d5, d6, d7, d8, d9, d10, d11⟩ := h
  have hw := wayS_b hx ha hb
  refine ⟨d1, d2, ?_, ?_, fun q => ⟨?_, ?_, ?_⟩, fun q => ?_, d7, d8, d9, d10, d11⟩
  · show 10 ≤ 10; decide
  · show b ≤ 10; omega
  · exact ha
  · exact hw.1
  · exact hw.2
  · have q : 10 < 10 := q
    exact absurd q (by decide)
theorem stayS_W {t Y : Nat} {S : DS} {L : LW} {xs ys : Nat → Nat} (h : DW t Y S) (hx : ∀ p, p < 10 → xs p < 10 ∧ ys p < 10) (ha : S.2.2.2 0 < 10) : DW t Y (stayS L xs ys S) := by
  unfold stayS
  by_cases c : 6 ≤ S.2.2.2 4 ∧ S.2.2.2 4 ≤ 19 ∧ S.2.2.2 6 = 0 ∧ (nxtS L xs ys (hadS S (S.2.2.2 0)) (S.2.2.2 0) 10).1 < 10
  · rw [if_pos c]; exact h.had.out hx ha c.2.2.2
  · rw [if_neg c]; exact h.had
theorem CD.out {σ : MM} {W D a b w : Nat} {S : DS} {xs ys : Nat → Nat} (hb : b < 10) (hw : w = wayS xs ys a b) (h : CD W σ D S) : CD W (wI (wI (wI (wI σ D 5 (nI b)) D 4 (nI a)) D 6 (nI w)) D 3 (-1)) D (outS xs ys S a b) := by
  obtain ⟨c1, c2, ⟨w, w1, w2, w3, w4⟩, c4, c5, c6, c7, c8, c9, c10⟩ := h
  refine ⟨fun a ha b hb => ?_, fun p hp => ?_, ⟨w, w1, ?_, w3, fun k hk => ?_⟩, ?_, ?_, fun q => ⟨?_, ?_⟩, ?_, ?_, ?_, ?_⟩
  · rw [mI_wn (by omega), mI_wn (by omega), mI_wn (by omega), mI_wn (by omega)]; exact c1 a ha b hb
  · rw [mI_wn (by omega), mI_wn (by omega), mI_wn (by omega), mI_wn (by omega)]; exact c2 p hp
  · rw [mI_wy (by decide), mI_wy (by decide), mI_wy (by decide), mI_wy (by decide)]; exact w2
  · rw [mI_wn (by omega), mI_wn (by omega), mI_wn (by omega), mI_wn (by omega)]; exact w4 k hk
  · rw [mI_ws]; rfl
  · rw [mI_wy (by decide), mI_wy (by decide), mI_wy (by decide), mI_ws]
    show _ = pv b
    rw [pv_lt hb]
  · rw [mI_wy (by decide), mI_wy (by decide), mI_ws]; rfl
  · rw [mI_wy (by decide), mI_ws, hw]; rfl
  · rw [mI_wy (by decide), mI_wy (by decide), mI_wy (by decide), mI_wy (by decide)]; exact c7
  · rw [mI_wy (by decide), mI_wy (by decide), mI_wy (by decide), mI_wy (by decide)]; exact c8
  · rw [mI_wy (by decide), mI_wy (by decide), mI_wy (by decide), mI_wy (by decide)]; exact c9
  · rw [mI_wy (by decide), mI_wy (by decide), mI_wy (by decide), mI_wy (by decide)]; exact c10
theorem MD.out {σ : MM} {A a b w : Nat} {S : DS} {xs ys : Nat → Nat} (hlen : S.2.2.1.length ≤ 40) (hb : b < 10) (hw : w = wayS xs ys a b) (h : MD σ A S) : MD (wI (wI (wI (wI σ A 151 (-2)) A 152 (nI a)) A 153 (nI b)) A 154 (nI w)) A (outS xs ys S a b) := by
  obtain ⟨m1, m2, ⟨m3, m4⟩, m5, m6, m7, m8, m9, m10, m11, m12⟩ := h
  have e : ∀ y, y < 151 ∨ 154 < y → mI (wI (wI (wI (wI σ A 151 (-2)) A 152 (nI a)) A 153 (nI b)) A 154 (nI w)) A y = mI σ A y := fun y hy => by rw [mI_wy (by omega), mI_wy (by omega), mI_wy (by omega), mI_wy (by omega)]
  refine ⟨fun x hx y hy => ?_, fun p hp => ?_, ⟨?_, fun k hk => ?_⟩, ?_, ?_, fun q => ?_, ?_, ?_, ?_, ?_, ?_⟩
  · rw [e _ (by omega)]; exact m1 x hx y hy
  · rw [e _ (by omega)]; exact m2 p hp
  · rw [e _ (by omega)]; exact m3
  · have hk9 : k < S.2.2.1.length := hk
    rw [e _ (by omega)]; exact m4 k hk
  · rw [mI_wy (by decide), mI_wy (by decide), mI_wy (by decide), mI_ws]; rfl
  · rw [mI_wy (by decide), mI_ws]
    show _ = qv b
    rw [qv_lt hb]
  · rw [mI_wy (by decide), mI_wy (by decide), mI_ws]; rfl
  · rw [mI_ws, hw]
    show _ = nI (if b < 10 then _ else 0)
    rw [if_pos hb]; rfl
  · rw [e _ (by omega)]; exact m9
  · rw [e _ (by omega)]; exact m10
  · rw [e _ (by omega)]; exact m11
  · rw [e _ (by omega)]; exact m12
section HOLD
variable {σ : MM} {F D W t Y : Nat} {S : DS} {xs ys : Nat → Nat} {L : LW}
theorem CE.xy (h : CE σ t xs ys) : ∀ p, p < 10 → xs p < 10 ∧ ys p < 10 := fun p hp => ⟨(h.2.2 p hp).2.2.1, (h.2.2 p hp).2.2.2⟩
theorem ME.xy (h : ME σ t xs ys) : ∀ p, p < 10 → xs p < 10 ∧ ys p < 10 := fun p hp => ⟨(h.2.2 p hp).2.2.1, (h.2.2 p hp).2.2.2⟩
theorem within_b {k : Nat} {F : Nat} {σ : MM} (hk : k < 2147483648) : g_X0_within F σ (nI k) 6 19 = some (if 6 ≤ k ∧ k ≤ 19 then 1 else 0, σ) := by
  unfold g_X0_within
  by_cases c : k < 6
  · rw [if_pos (show nI k < 6 from nI_lt (b := 6) c (by decide)), if_neg (by omega)]
  · rw [if_neg (show ¬ nI k < 6 from nI_nlt (b := 6) (a := k) (by omega) hk)]
    by_cases c2 : 19 < k
    · rw [if_pos (show 19 < nI k from nI_lt (a := 19) c2 hk), if_neg (by omega)]
    · rw [if_neg (show ¬ 19 < nI k from nI_nlt (b := k) (a := 19) (by omega) (by decide)), if_pos (by omega)]
theorem inM_b {k : Nat} {F : Nat} {σ : MM} (hk : k < 2147483648) : g_X6_in F σ (nI k) 6 19 = some (if 6 ≤ k ∧ k ≤ 19 then 1 else 0, σ) := by
  unfold g_X6_in
  by_cases c : k < 6
  · rw [if_pos (show nI k < 6 from nI_lt (b := 6) c (by decide)), if_neg (by omega)]
  · rw [if_neg (show ¬ nI k < 6 from nI_nlt (b := 6) (a := k) (by omega) hk)]
    by_cases c2 : 19 < k
    · rw [if_pos (show 19 < nI k from nI_lt (a := 19) c2 hk), if_neg (by omega)]
    · rw [if_neg (show ¬ 19 < nI k from nI_nlt (b := k) (a := 19) (by omega) (by decide)), if_pos (by omega)]
theorem e_X3_stays (hK : CK σ L t xs ys) (hD : isD D) (hC : CD W σ D S) (hW : W < 2147483648) (hw : DW t Y S) (ha : S.2.2.2 0 < 10) (hF : 100000 ≤ F) : ∃ σ', g_X3_stays F σ D = some σ' ∧ kj (rD D) σ σ' ∧ CD W σ' D (stayS L xs ys S) := by
  obtain ⟨a, hae⟩ : ∃ a, S.2.2.2 0 = a := ⟨_, rfl⟩
  have l := hK.1
  have hh : mI σ D 3 = nI a := by rw [hC.2.2.2.1, hae, pv_lt (by omega)]
  have C1 := hC.hd (p := a)
  have k1 : kj (rD D) σ (wI σ (D + 13) a (S.2.1 a + 1)) := kj.w (Or.inr (Or.inr ⟨by omega, by omega⟩))
  have K1 := hK.j k1 (rD_rC hD)
  have l1 := K1.1
  have hv : mI σ (D + 13) a = S.2.1 a := hC.2.1 a (by omega)
  have a10 : a < 10 := by omega
  have u1 : aI σ (D + 13) 20 (nI a) = some (S.2.1 a) := by rw [aI_T (by rw [hD.T13 l]) (by rw [hD.T13 l]; exact a10) (by rw [hD.T13 l]; decide), hv]
  have u2 : sI σ (D + 13) (nI a) (S.2.1 a + 1) = some (wI σ (D + 13) a (S.2.1 a + 1)) := sI_T (by rw [hD.T13 l]) (by rw [hD.T13 l]; exact a10) (by rw [hD.T13 l]; decide)
  unfold g_X3_stays stayS
  rw [if_pos (hD.T l), gP_T (hD.T l), Option.bind_some, gI_T (hD.T l), Option.bind_some, hD.P1 l, hh, u1, Option.bind_some, u2, Option.bind_some, hae]
  obtain ⟨s, hs⟩ : ∃ s, wI σ (D + 13) a (S.2.1 a + 1) = s := ⟨_, rfl⟩
  obtain ⟨S1, hS1⟩ : ∃ S1, hadS S a = S1 := ⟨_, rfl⟩
  have hw1 : DW t Y S1 := by rw [← hS1]; exact hw.had
  have q4 : S.2.2.2 4 = S1.2.2.2 4 := by rw [← hS1]; rfl
  have q6 : S.2.2.2 6 = S1.2.2.2 6 := by rw [← hS1]; rfl
  have q0 : S1.2.2.2 0 = a := by rw [← hS1]; exact hae
  rw [hs] at C1 k1 K1 l1 ⊢
  rw [hS1] at C1 ⊢
  rw [q4, q6]
  have h4 := hw1.2.2.2.2.2.2.1
  have h6 := hw1.2.2.2.2.2.2.2.2.1
  rw [gI_T (hD.T l1), Option.bind_some, C1.2.2.2.2.2.2.1, within_b (by omega), bq_some, jn_eq]
  (try dsimp only)
  by_cases c1 : 6 ≤ S1.2.2.2 4 ∧ S1.2.2.2 4 ≤ 19
  · rw [if_pos c1, if_neg (by decide), gI_T (hD.T l1), Option.bind_some, C1.2.2.2.2.2.2.2.2.1]
    by_cases c2 : S1.2.2.2 6 = 0
    · obtain ⟨s2, k2, e2⟩ := e_X3_nextPaid (F := F) (S := S1) K1 hD C1 hW hw1 a10 q0 hF
      have k2j := k2.j (R := rD D) (fun x y q => Or.inl q)
      rw [if_pos (by rw [c2]; rfl), e2, bq_some]
      have C2 := C1.keep (fun a q => k2.2 a (hD.ne4 q))
      have K2 := K1.j k2j (rD_rC hD)
      by_cases c3 : (nxtS L xs ys S1 a 10).1 < 10
      · rw [if_neg (pv_ne c3), if_pos ⟨c1.1, c1.2, c2, c3⟩]
        obtain ⟨b, hb⟩ : ∃ b, (nxtS L xs ys S1 a 10).1 = b := ⟨_, rfl⟩
        rw [hb] at c3 ⊢
        rw [pv_lt c3]
        have l2 := K2.1
        have r1 : ∀ {σ : MM} {j : Nat} {v : Int32}, j < 11 → kj (rD D) σ (wI σ D j v) := fun hj => kj.w (Or.inr (Or.inl ⟨rfl, Or.inl hj⟩))
        have k3 : kj (rD D) s2 (wI (wI s2 D 5 (nI b)) D 4 (nI a)) := (r1 (by decide)).trans (r1 (by decide))
        have K3 := K2.j k3 (rD_rC hD)
        have l3 := K3.1
        have h3 : mI s2 D 3 = nI a := by rw [C2.2.2.2.1, q0, pv_lt a10]
        have e3 : mI (wI s2 D 5 (nI b)) D 3 = nI a := by rw [mI_wy (by decide), h3]
        have e4 : mI (wI (wI s2 D 5 (nI b)) D 4 (nI a)) D 3 = nI a := by rw [mI_wy (by decide), e3]
        have l5 : lay (wI s2 D 5 (nI b)) := l2
        have l6 : lay (wI (wI (wI s2 D 5 (nI b)) D 4 (nI a)) D 6 (nI (wayS xs ys a b))) := l2
        rw [pI_T (hD.T l2), Option.bind_some, gI_T (hD.T l5), Option.bind_some, e3, pI_T (hD.T l5), Option.bind_some, gP_T (hD.T l3), Option.bind_some, hD.P15 l3, gI_T (hD.T l3), Option.bind_some, e4, e_way l3 K3.2.2 a10 c3, bq_some, pI_T (hD.T l3), Option.bind_some, pI_T (hD.T l6), Option.bind_some]
        exact ⟨_, rfl, ((k1.trans k2j).trans k3).trans ((r1 (by decide)).trans (r1 (by decide))), C2.out c3 rfl⟩
      · have h10 : (nxtS L xs ys S1 a 10).1 = 10 := by
          have := (nxtS_ok L xs ys S1 a 10 (Nat.le_refl _)).1
          omega
        rw [h10, if_pos pv_10, if_neg (fun q => absurd q.2.2.2 (by decide))]
        exact ⟨s2, rfl, k1.trans k2j, C2⟩
    · rw [if_neg (nI_ne0 (n := S1.2.2.2 6) (by omega) (by omega)), if_pos rfl, if_neg (fun q => c2 q.2.2.1)]
      exact ⟨s, rfl, k1, C1⟩
  · rw [if_neg c1, if_pos rfl, if_pos rfl, if_neg (fun q => c1 ⟨q.1, q.2.1⟩)]
    exact ⟨s, rfl, k1, C1⟩
theorem e_X6_holds (hK : MK σ L t xs ys) (hM : MD σ 86 S) (hw : DW t Y S) {a : Nat} (hae : S.2.2.2 0 = a) (a10 : a < 10) (hF : 100000 ≤ F) : ∃ σ', g_X6_holds F σ 85 (nI a) = some σ' ∧ kj rN σ σ' ∧ MD σ' 86 (stayS L xs ys S) := by
  have l := hK.1
  have M1 := hM.hd (p := a) a10
  have k1 : kj rN σ (wI σ 86 (100 + a) (S.2.1 a + 1)) := kj.w (Or.inl rfl)
  have K1 := hK.j k1 rN_rM
  have l1 := K1.1
  have hv : mI σ 86 (100 + a) = S.2.1 a := hM.2.1 a (by omega)
  unfold g_X6_holds stayS
  rw [if_pos (T85 l), gN l, Option.bind_some, Option.bind_some, show (100 : Int32) = nI 100 from rfl, nI_add, aN l (by omega), Option.bind_some, hv, sN l (by omega), Option.bind_some, hae]
  obtain ⟨s, hs⟩ : ∃ s, wI σ 86 (100 + a) (S.2.1 a + 1) = s := ⟨_, rfl⟩
  obtain ⟨S1, hS1⟩ : ∃ S1, hadS S a = S1 := ⟨_, rfl⟩
  have hw1 : DW t Y S1 := by rw [← hS1]; exact hw.had
  have q4 : S.2.2.2 4 = S1.2.2.2 4 := by rw [← hS1]; rfl
  have q6 : S.2.2.2 6 = S1.2.2.2 6 := by rw [← hS1]; rfl
  rw [hs] at M1 k1 K1 l1 ⊢
  rw [hS1] at M1 ⊢
  rw [q4, q6]
  have h4 := hw1.2.2.2.2.2.2.1
  have h6 := hw1.2.2.2.2.2.2.2.2.1
  obtain ⟨m1, m2, m3, m5, m6, m7, m8, m9, m10, m11, m12⟩ := M1
  rw [gN l1, Option.bind_some, show (155 : Int32) = nI 155 from rfl, aN l1 (by decide), Option.bind_some, m9, inM_b (by omega), bq_some]
  by_cases c1 : 6 ≤ S1.2.2.2 4 ∧ S1.2.2.2 4 ≤ 19
  · rw [if_pos c1, if_neg (by decide), gN l1, Option.bind_some, show (157 : Int32) = nI 157 from rfl, aN l1 (by decide), Option.bind_some, m11]
    by_cases c2 : S1.2.2.2 6 = 0
    · obtain ⟨s2, k2, e2⟩ := e_X6_nextPaid (F := F) (S := S1) K1 ⟨m1, m2, m3, m5, m6, m7, m8, m9, m10, m11, m12⟩ hw1 a10 hF
      have k2j := k2.j (R := rN) (fun x y q => by unfold rN; omega)
      have K2 := K1.j k2j rN_rM
      have M2 : MD s2 86 S1 := MD.keep ⟨m1, m2, m3, m5, m6, m7, m8, m9, m10, m11, m12⟩ (k2.2 86 (by decide))
      rw [if_neg (by rw [c2]; decide), e2, bq_some]
      by_cases c3 : (nxtS L xs ys S1 a 10).1 < 10
      · rw [if_neg (qv_ne c3), if_pos ⟨c1.1, c1.2, c2, c3⟩]
        obtain ⟨b, hb⟩ : ∃ b, (nxtS L xs ys S1 a 10).1 = b := ⟨_, rfl⟩
        rw [hb] at c3 ⊢
        rw [qv_lt c3]
        have l2 := K2.1
        have r1 : ∀ {σ : MM} {j : Nat} {v : Int32}, kj rN σ (wI σ 86 j v) := kj.w (Or.inl rfl)
        have k3 : kj rN s2 (wI (wI (wI s2 86 151 (-2)) 86 152 (nI a)) 86 153 (nI b)) := r1.trans (r1.trans r1)
        have K3 := K2.j k3 rN_rM
        have l3 := K3.1
        have l4 : lay (wI s2 86 151 (-2)) := l2
        have l5 : lay (wI (wI s2 86 151 (-2)) 86 152 (nI a)) := l2
        have es : g_X6_setsOut F s2 85 (nI a) (nI b) = some (wI (wI (wI (wI s2 86 151 (-2)) 86 152 (nI a)) 86 153 (nI b)) 86 154 (nI (wayS xs ys a b))) := by
          unfold g_X6_setsOut
          rw [if_pos (T85 l2), gN l2, Option.bind_some, show (151 : Int32) = nI 151 from rfl, sN l2 (by decide), Option.bind_some, gN l4, Option.bind_some, show (152 : Int32) = nI 152 from rfl, sN l4 (by decide), Option.bind_some, gN l5, Option.bind_some, show (153 : Int32) = nI 153 from rfl, sN l5 (by decide), Option.bind_some, gN l3, Option.bind_some, e_wayM l3 K3.2.2 a10 c3, bq_some, show (154 : Int32) = nI 154 from rfl, sN l3 (by decide), Option.bind_some]
        rw [es, Option.bind_some]
        exact ⟨_, rfl, ((k1.trans k2j).trans k3).trans r1, M2.out hw1.2.1 c3 rfl⟩
      · have h10 : (nxtS L xs ys S1 a 10).1 = 10 := by
          have := (nxtS_ok L xs ys S1 a 10 (Nat.le_refl _)).1
          omega
        rw [h10, if_pos (show qv 10 < 0 by decide), if_neg (fun q => absurd q.2.2.2 (by decide))]
        exact ⟨s2, rfl, k1.trans k2j, M2⟩
    · have e1 : S1.2.2.2 6 = 1 := by omega
      rw [if_pos (show nI (S1.2.2.2 6) = 1 by rw [e1]; rfl), if_neg (fun q => c2 q.2.2.1)]
      exact ⟨s, rfl, k1, m1, m2, m3, m5, m6, m7, m8, m9, m10, m11, m12⟩
  · rw [if_neg c1, if_pos rfl, if_neg (fun q => c1 ⟨q.1, q.2.1⟩)]
    exact ⟨s, rfl, k1, m1, m2, m3, m5, m6, m7, m8, m9, m10, m11, m12⟩
end HOLD
