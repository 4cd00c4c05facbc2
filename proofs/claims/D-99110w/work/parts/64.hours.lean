/-! HOURS, ONE AFTER ANOTHER -/
section HW
variable {t Y : Nat} {xs ys : Nat → Nat} {L : LW}
theorem nxtS_told {S : DS} {a : Nat} (h : DW t Y S) (ha : a < 10) (hb : (nxtS L xs ys S a 10).1 < 10) : t.testBit (nxtS L xs ys S a 10).1 = true := ((h.1 a ha _ hb).2 ((nxtS_ok L xs ys S a 10 (Nat.le_refl _)).2.2 hb)).2.2
theorem tickS_q {S : DS} {j : Nat} (h4 : j ≠ 4) (h5 : j ≠ 5) : (tickS S).2.2.2 j = S.2.2.2 j := by
  unfold tickS
  by_cases c : S.2.2.2 4 + 1 = 24
  · rw [if_pos c]
    show upQ (upQ (upQ S.2.2.2 4 _) 4 _) 5 _ j = _
    rw [upQ_n h5, upQ_n h4, upQ_n h4]
  · rw [if_neg c]
    show upQ S.2.2.2 4 _ j = _
    rw [upQ_n h4]
theorem doneS_G {S : DS} {p : Int32} (h : DW t Y S) (hg : GT t S) : GT t (doneS L xs ys S p).2.1 := by
  unfold doneS
  by_cases c : S.2.2.2 1 < 10
  · rw [if_pos c]
    by_cases c2 : S.2.2.2 3 - 1 = 0
    · rw [if_pos c2]
      intro q
      exact absurd q (show ¬ 10 < 10 by decide)
    · rw [if_neg c2]
      exact hg
  · rw [if_neg c]
    by_cases c2 : S.2.2.2 0 < 10
    · rw [if_pos c2]
      show GT t (stayS L xs ys S)
      unfold stayS
      by_cases c3 : 6 ≤ S.2.2.2 4 ∧ S.2.2.2 4 ≤ 19 ∧ S.2.2.2 6 = 0 ∧ (nxtS L xs ys (hadS S (S.2.2.2 0)) (S.2.2.2 0) 10).1 < 10
      · rw [if_pos c3]
        exact fun _ => nxtS_told h.had c2 c3.2.2.2
      · rw [if_neg c3]; exact hg
    · rw [if_neg c2]; exact hg
theorem hourS_W {x : HS} (h : DW t Y x.1) (hg : GT t x.1) (hx : ∀ p, p < 10 → xs p < 10 ∧ ys p < 10) : DW t (Y + 1) (hourS L xs ys x).2.1 ∧ GT t (hourS L xs ys x).2.1 := by
  have h1 : DW t Y (mornS L xs ys x).1 := mornS_W h
  have g1 : GT t (mornS L xs ys x).1 := by
    unfold GT
    rw [mornS_q (by decide) (by decide)]
    exact hg
  have h2 := doneS_W (L := L) (p := (mornS L xs ys x).2.1) h1 hx g1
  have g2 := doneS_G (L := L) (xs := xs) (ys := ys) (p := (mornS L xs ys x).2.1) h1 g1
  refine ⟨tickS_W h2, ?_⟩
  unfold GT
  show (tickS (doneS L xs ys (mornS L xs ys x).1 (mornS L xs ys x).2.1).2.1).2.2.2 1 < 10 → t.testBit ((tickS (doneS L xs ys (mornS L xs ys x).1 (mornS L xs ys x).2.1).2.1).2.2.2 1) = true
  rw [tickS_q (by decide) (by decide)]
  exact g2
theorem hourS_got {x : HS} (h : DW t Y x.1) : (hourS L xs ys x).1 ≤ 10 := by
  have h1 : DW t Y (mornS L xs ys x).1 := mornS_W h
  show (doneS L xs ys (mornS L xs ys x).1 (mornS L xs ys x).2.1).1 ≤ 10
  unfold doneS
  by_cases c : (mornS L xs ys x).1.2.2.2 1 < 10
  · rw [if_pos c]
    by_cases c2 : (mornS L xs ys x).1.2.2.2 3 - 1 = 0
    · rw [if_pos c2]; exact Nat.le_of_lt c
    · rw [if_neg c2]; exact Nat.le_refl _
  · rw [if_neg c]
    by_cases c2 : (mornS L xs ys x).1.2.2.2 0 < 10
    · rw [if_pos c2]; exact Nat.le_refl _
    · rw [if_neg c2]; exact Nat.le_refl _
end HW
section GOESN
variable (L : LW) (xs ys : Nat → Nat)
def goesS (x : HS) : Nat → HS
  | 0 => x
  | n + 1 => if (goesS x n).1.2.2.2 5 < 9999 then (hourS L xs ys (goesS x n)).2 else goesS x n
theorem goesS_stop {x : HS} {i : Nat} (h : ¬ (goesS L xs ys x i).1.2.2.2 5 < 9999) : ∀ m, goesS L xs ys x (i + m) = goesS L xs ys x i
  | 0 => rfl
  | m + 1 => by
    have ih := goesS_stop h m
    show (if (goesS L xs ys x (i + m)).1.2.2.2 5 < 9999 then (hourS L xs ys (goesS L xs ys x (i + m))).2 else goesS L xs ys x (i + m)) = _
    rw [ih, if_neg h]
theorem goesS_W {t Y : Nat} {x : HS} (h : DW t Y x.1) (hg : GT t x.1) (hx : ∀ p, p < 10 → xs p < 10 ∧ ys p < 10) : ∀ n, DW t (Y + n) (goesS L xs ys x n).1 ∧ GT t (goesS L xs ys x n).1
  | 0 => ⟨h, hg⟩
  | n + 1 => by
    have ih := goesS_W h hg hx n
    show DW t (Y + n + 1) (if (goesS L xs ys x n).1.2.2.2 5 < 9999 then (hourS L xs ys (goesS L xs ys x n)).2 else goesS L xs ys x n).1 ∧ GT t (if (goesS L xs ys x n).1.2.2.2 5 < 9999 then (hourS L xs ys (goesS L xs ys x n)).2 else goesS L xs ys x n).1
    by_cases c : (goesS L xs ys x n).1.2.2.2 5 < 9999
    · rw [if_pos c]; exact hourS_W ih.1 ih.2 hx
    · rw [if_neg c]; exact ⟨ih.1.mono (by omega), ih.2⟩
end GOESN
section GOES2
variable {σ : MM} {F D W t Y : Nat} {x : HS} {xs ys : Nat → Nat} {L : LW}
theorem CH.mono {W' : Nat} (h : CH W σ D x) (hW : W ≤ W') : CH W' σ D x := ⟨h.1.mono hW, h.2⟩
theorem e_X3_canGo (l : lay σ) (hD : isD D) (hC : CD W σ D x.1) (hw : DW t Y x.1) (hY : Y < 2147483648) : g_X3_canGo F σ D = some (if x.1.2.2.2 5 < 9999 then 1 else 0, σ) := by
  have h8 : mI σ D 8 = nI (x.1.2.2.2 5) := hC.2.2.2.2.2.2.2.1
  have hy := hw.2.2.2.2.2.2.2.1
  unfold g_X3_canGo
  rw [if_pos (hD.T l), gI_T (hD.T l), Option.bind_some, h8]
  by_cases c : x.1.2.2.2 5 < 9999
  · rw [if_pos c, if_pos (show nI (x.1.2.2.2 5) < 9999 from nI_lt (b := 9999) c (by decide))]
  · rw [if_neg c, if_neg (show ¬ nI (x.1.2.2.2 5) < 9999 from nI_nlt (b := 9999) (by omega) (by omega))]
theorem goes_loop (hK : CK σ L t xs ys) (hD : isD D) (hC : CH W σ D x) (hw : DW t Y x.1) (hg : GT t x.1) {N : Nat} (hN : N ≤ 240) (hW : W + 240 < 1000000) (hY : Y + 240 < 2147483648) (hF : 100000 ≤ F) (K : MM → Option (Nat × MM)) : ∃ σ', l_X3_goes_7 K F D (nI N) F 0 σ = K σ' ∧ kj (rH D) σ σ' ∧ CH (W + N) σ' D (goesS L xs ys x N) := by
  have key : ∀ n i f s, i + n = N → n < f → kj (rH D) σ s → CH (W + i) s D (goesS L xs ys x i) → ∃ σ', l_X3_goes_7 K F D (nI N) f (nI i) s = K σ' ∧ kj (rH D) σ σ' ∧ CH (W + N) σ' D (goesS L xs ys x N) := by
    intro n
    induction n with
    | zero =>
      intro i f s e hf hk hc
      obtain ⟨f, rfl⟩ : ∃ g, f = g + 1 := ⟨f - 1, by omega⟩
      have e : i = N := by omega
      subst e
      rw [l_X3_goes_7.eq_2, if_neg (nI_nlt (Nat.le_refl _) (by omega))]
      exact ⟨s, rfl, hk, hc⟩
    | succ n ih =>
      intro i f s e hf hk hc
      obtain ⟨f, rfl⟩ : ∃ g, f = g + 1 := ⟨f - 1, by omega⟩
      have ks := hK.j hk (rH_rC hD)
      have hwi := goesS_W L xs ys hw hg hK.2.2.xy i
      rw [l_X3_goes_7.eq_2, if_pos (nI_lt (by omega) (by omega)), e_X3_canGo ks.1 hD hc.1 hwi.1 (by omega), bq_some]
      by_cases c : (goesS L xs ys x i).1.2.2.2 5 < 9999
      · rw [if_pos c, if_neg (by decide)]
        obtain ⟨s2, e2, k2, c2⟩ := e_X3_hourGoes (F := F) ks hD hc (by omega) hwi.1 (by omega) hF
        rw [e2, bq_some, nI_1]
        have e3 : goesS L xs ys x (i + 1) = (hourS L xs ys (goesS L xs ys x i)).2 := if_pos c
        exact ih (i + 1) f s2 (by omega) (by omega) (hk.trans k2) (by rw [e3]; exact c2)
      · rw [if_neg c, if_pos rfl]
        have e3 := goesS_stop L xs ys c (n + 1)
        rw [e] at e3
        exact ⟨s, rfl, hk, by rw [e3]; exact hc.mono (by omega)⟩
  exact key N 0 F σ (by omega) (by omega) kj.refl hC
theorem e_X3_goes {S : DS} (hK : CK σ L t xs ys) (hD : isD D) (hC : CD W σ D S) (hw : DW t Y S) (hg : GT t S) {N : Nat} (hN : N ≤ 240) (hW : W + 240 < 1000000) (hY : Y + 240 < 2147483648) (hF : 100000 ≤ F) : ∃ σ', g_X3_goes F σ D (nI N) = some (D, σ') ∧ kj (rH D) σ σ' ∧ CH (W + N) σ' D (goesS L xs ys (S, 0, 0, 0) N) := by
  have l := hK.1
  have w_ : ∀ {s : MM} {j : Nat} {v : Int32}, kj (rH D) s (wI s D j v) := kj.w (Or.inr (Or.inl rfl))
  have l1 : lay (wI σ D 11 0) := l
  have l2 : lay (wI (wI σ D 11 0) D 12 0) := l
  have k3 : kj (rH D) σ (wI (wI (wI σ D 11 0) D 12 0) D 13 0) := w_.trans (w_.trans w_)
  have C3 : CH W (wI (wI (wI σ D 11 0) D 12 0) D 13 0) D (S, 0, 0, 0) := by
    refine ⟨hC.j ((kj.w (R := fun x y => x = D ∧ 11 ≤ y ∧ y ≤ 13) ⟨rfl, by decide⟩).trans ((kj.w ⟨rfl, by decide⟩).trans (kj.w ⟨rfl, by decide⟩))) (fun x y q => by have q : x = D ∧ 11 ≤ y ∧ y ≤ 13 := q; omega), ?_, ?_, mI_ws⟩
    · rw [mI_wy (by decide), mI_wy (by decide), mI_ws]
    · rw [mI_wy (by decide), mI_ws]
  obtain ⟨s, e, k, c⟩ := goes_loop (F := F) (hK.j k3 (rH_rC hD)) hD C3 hw hg hN hW hY hF (fun (σ7 : MM) => some (D, σ7))
  unfold g_X3_goes g_X3_begins
  rw [if_pos (hD.T l), if_pos (hD.T l), pI_T (hD.T l), Option.bind_some, pI_T (hD.T l1), Option.bind_some, pI_T (hD.T l2), Option.bind_some, bq_some, e]
  exact ⟨s, rfl, k3.trans k, c⟩
theorem e_X6_begins (l : lay σ) {S : DS} (hM : MD σ 86 S) : ∃ σ', g_X6_begins F σ 85 = some σ' ∧ kj rHM σ σ' ∧ MH σ' (S, 0, 0, 0) := by
  have l1 : lay (wI σ 85 32 0) := l
  have l2 : lay (wI (wI σ 85 32 0) 85 33 0) := l
  unfold g_X6_begins
  rw [if_pos (T85 l), pI_T (T85 l), Option.bind_some, pI_T (T85 l1), Option.bind_some, pI_T (T85 l2), Option.bind_some]
  refine ⟨_, rfl, (kj.w (Or.inr ⟨rfl, by decide⟩)).trans ((kj.w (Or.inr ⟨rfl, by decide⟩)).trans (kj.w (Or.inr ⟨rfl, by decide⟩))), hM.keep ?_, ?_, ?_, mI_ws⟩
  · rw [mI_wn (by decide), mI_wn (by decide), mI_wn (by decide)]
  · rw [mI_wy (by decide), mI_wy (by decide), mI_ws]
  · rw [mI_wy (by decide), mI_ws]
theorem e_X6_hoursGo {S : DS} (hK : MK σ L t xs ys) (hM : MD σ 86 S) (hw : DW t Y S) (hg : GT t S) {N : Nat} (hN : N ≤ 240) (hY : Y + 240 < 2147483648) (hF : 100000 ≤ F) : ∃ σ', g_X6_hoursGo F σ 85 (nI N) = some σ' ∧ kj rHM σ σ' ∧ MH σ' (goesS L xs ys (S, 0, 0, 0) N) := by
  obtain ⟨s0, e0, k0, M0⟩ := e_X6_begins (F := F) hK.1 hM
  unfold g_X6_hoursGo
  rw [if_pos (T85 hK.1), e0, Option.bind_some]
  have key : ∀ n i f s, i + n = N → n < f → kj rHM σ s → MH s (goesS L xs ys (S, 0, 0, 0) i) → ∃ σ', l_X6_hoursGo_6 (fun (σ5 : MM) => some σ5) F 85 (nI N) f (nI i) s = some σ' ∧ kj rHM σ σ' ∧ MH σ' (goesS L xs ys (S, 0, 0, 0) N) := by
    intro n
    induction n with
    | zero =>
      intro i f s e hf hk hc
      obtain ⟨f, rfl⟩ : ∃ g, f = g + 1 := ⟨f - 1, by omega⟩
      have e : i = N := by omega
      subst e
      rw [l_X6_hoursGo_6.eq_2, if_neg (nI_nlt (Nat.le_refl _) (by omega))]
      exact ⟨s, rfl, hk, hc⟩
    | succ n ih =>
      intro i f s e hf hk hc
      obtain ⟨f, rfl⟩ : ∃ g, f = g + 1 := ⟨f - 1, by omega⟩
      have ks := hK.j hk rHM_rM
      have hwi := goesS_W L xs ys (x := (S, 0, 0, 0)) hw hg hK.2.2.xy i
      have h8 : mI s 86 156 = nI ((goesS L xs ys (S, 0, 0, 0) i).1.2.2.2 5) := hc.1.2.2.2.2.2.2.2.2.1
      have hy := hwi.1.2.2.2.2.2.2.2.1
      rw [l_X6_hoursGo_6.eq_2, if_pos (nI_lt (by omega) (by omega)), gN ks.1, Option.bind_some, a156 ks.1, Option.bind_some, h8]
      by_cases c : (goesS L xs ys (S, 0, 0, 0) i).1.2.2.2 5 < 9999
      · rw [if_pos (show nI ((goesS L xs ys (S, 0, 0, 0) i).1.2.2.2 5) < 9999 from nI_lt (b := 9999) c (by decide))]
        obtain ⟨s2, e2, k2, f2, c2⟩ := e_X6_hourGoes (F := F) ks hc hwi.1 hF
        rw [e2, Option.bind_some, nI_1]
        have e3 : goesS L xs ys (S, 0, 0, 0) (i + 1) = (hourS L xs ys (goesS L xs ys (S, 0, 0, 0) i)).2 := if_pos c
        exact ih (i + 1) f s2 (by omega) (by omega) (hk.trans k2) (by rw [e3]; exact c2)
      · rw [if_neg (show ¬ nI ((goesS L xs ys (S, 0, 0, 0) i).1.2.2.2 5) < 9999 from nI_nlt (b := 9999) (by omega) (by omega))]
        have e3 := goesS_stop L xs ys c (n + 1)
        rw [e] at e3
        exact ⟨s, rfl, hk, by rw [e3]; exact hc⟩
  exact key N 0 F s0 (by omega) (by omega) k0 M0
end GOES2
/-! the calls -/
section UPS
variable {σ σ' : MM} {B B' : Nat} {G : GG} {R : Nat → Nat → Prop} {S' : DS}
theorem CI.upS (h : CI B σ G) (g : kj R σ σ') (hR : ∀ x y, R x y → (x = 5 ∨ (8 ≤ x ∧ x ≤ 19)) ∨ rSC x y) (hC : CD B' σ' 5 S') (hB : B ≤ B') : CI B' σ' (G.wS S') := by
  have g := g.mono hR
  obtain ⟨h1, h2, h3, h4, h5, h6⟩ := h
  refine ⟨h1.j g (fun x y q => ?_), hC, ?_, fun q => ((h4 q).j g (fun x y q => ?_)).mono hB, ?_, fun k hk => ?_⟩
  · unfold rSC at q; unfold rC; omega
  · rw [g.2 1 10 (by unfold rSC; omega)]; exact h3
  · unfold rSC at q; omega
  · rw [g.2 1 9 (by unfold rSC; omega)]; exact h5
  · rw [g.2 50 k (by unfold rSC; omega)]; exact h6 k hk
theorem MI.upS (h : MI σ G) (g : kj R σ σ') (hR : ∀ x y, R x y → x = 86 ∨ rSM x y) (hM : MD σ' 86 S') : MI σ' (G.wS S') := by
  have g := g.mono hR
  obtain ⟨h1, h2, h3, h4, h5, h6⟩ := h
  refine ⟨h1.j g (fun x y q => ?_), hM, ?_, fun q => (h4 q).j g (fun x y q => ?_), ?_, fun k hk => ?_⟩
  · unfold rSM at q; unfold rM; omega
  · rw [g.2 85 61 (by unfold rSM; omega)]; exact h3
  · unfold rSM at q; omega
  · rw [g.2 85 7 (by unfold rSM; omega)]; exact h5
  · rw [g.2 91 k (by unfold rSM; omega)]; exact h6 k hk
theorem upS_rX (hR : ∀ x y, R x y → (x = 5 ∨ (8 ≤ x ∧ x ≤ 19)) ∨ rSC x y) (g : kj R σ σ') : kj rX σ σ' := g.mono (fun x y q => by
  have := hR x y q
  unfold rSC at this
  unfold rX
  omega)
theorem upS_rY (hR : ∀ x y, R x y → x = 86 ∨ rSM x y) (g : kj R σ σ') : kj rY σ σ' := g.mono (fun x y q => by
  have := hR x y q
  unfold rSM at this
  unfold rY
  omega)
theorem GW.upS {B B' : Nat} (h : GW B G) (hB : B ≤ B') (hw : DW G.t B' S') (hg : GT G.t S') : GW B' (G.wS S') := by
  obtain ⟨h1, h2, h3, h4, h5, h6, h7⟩ := h
  exact ⟨h1, h2, hw, hg, h5, fun q => ⟨(h6 q).1.mono hB, (h6 q).2⟩, h7⟩
theorem rHM_86 (x y : Nat) (h : rHM x y) : x = 86 ∨ rSM x y := by
  unfold rHM rN at h
  unfold rSM
  omega
theorem rH_5 (x y : Nat) (h : rH 5 x y) : (x = 5 ∨ (8 ≤ x ∧ x ≤ 19)) ∨ rSC x y := by
  unfold rH at h
  unfold rSC
  omega
theorem rH_20 (x y : Nat) (h : rH 20 x y) : rSC x y := by
  unfold rH at h
  unfold rSC
  omega
theorem rT_20 (x y : Nat) (h : rT 20 x y) : rSC x y := by
  unfold rT at h
  unfold rSC
  omega
end UPS
section CALLS
variable {B F : Nat} {G : GG}
theorem d5 : isD 5 := Or.inl rfl
theorem d20 : isD 20 := Or.inr (Or.inl rfl)
theorem d35 : isD 35 := Or.inr (Or.inr rfl)
theorem call_hours (hG : GW B G) (hB : B < 900000) (hF : 100000 ≤ F) (a : Int32) : Call B G (fun σ => g_X0_hours F σ 1 a) (fun τ => g_X6_hours F τ 85 a) := by
  unfold g_X0_hours g_X6_hours
  rcases within_is (x := a) (l := 1) (m := 240) (by decide) (by decide) with ⟨N, hN1, hN, rfl, y1, y2⟩ | ⟨n1, n2⟩
  · have hW := goesS_W G.L G.xs G.ys (x := (G.S, 0, 0, 0)) hG.2.2.1 hG.2.2.2.1 hG.2.1 N
    refine ⟨(goesS G.L G.xs G.ys (G.S, 0, 0, 0) N).2.1, (G.wS ((goesS G.L G.xs G.ys (G.S, 0, 0, 0) N).1)), hG.upS (by omega) (hW.1.mono (by omega)) hW.2, fun σ h => ?_, fun τ h => ?_⟩
    · obtain ⟨s, e, k, c⟩ := e_X3_goes (F := F) h.1 d5 h.2.1 hG.2.2.1 hG.2.2.2.1 hN (by omega) (by omega) hF
      (try dsimp only)
      rw [if_pos (T1 h.l), show (1 : Int32) = nI 1 from rfl, show (240 : Int32) = nI 240 from rfl, y1, bq_some, if_neg (by decide), gP_T (T1 h.l), Option.bind_some, P1_4 h.l, e, bq_some, gI_T (d5.T (k.ly h.l)), Option.bind_some, c.2.1]
      exact ⟨s, rfl, upS_rX rH_5 k, h.upS k rH_5 (c.1.mono (by omega)) (by omega)⟩
    · obtain ⟨s, e, k, c⟩ := e_X6_hoursGo (F := F) h.1 h.2.1 hG.2.2.1 hG.2.2.2.1 hN (by omega) hF
      (try dsimp only)
      rw [if_pos (T85 h.l), show (1 : Int32) = nI 1 from rfl, show (240 : Int32) = nI 240 from rfl, y2, bq_some, if_neg (by decide), e, Option.bind_some, gI_T (T85 (k.ly h.l)), Option.bind_some, c.2.1]
      exact ⟨s, rfl, upS_rY rHM_86 k, h.upS k rHM_86 c.1⟩
  · refine call_look hG (-1) (fun σ h => ?_) (fun τ h => ?_)
    · (try dsimp only)
      rw [if_pos (T1 h.l), show (1 : Int32) = nI 1 from rfl, show (240 : Int32) = nI 240 from rfl, n1, bq_some, if_pos rfl]
    · (try dsimp only)
      rw [if_pos (T85 h.l), show (1 : Int32) = nI 1 from rfl, show (240 : Int32) = nI 240 from rfl, n2, bq_some, if_pos rfl]
end CALLS
