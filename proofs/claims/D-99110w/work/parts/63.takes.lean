/-! COPIES -/
section TAKES
variable {σ : MM} {F W D E t Y : Nat} {S : DS}
def rT (D x y : Nat) : Prop := (x = D ∧ (y < 11 ∨ 13 < y)) ∨ (D + 3 ≤ x ∧ x ≤ D + 14)
theorem e_X3_takes (l : lay σ) (hD : isD D) (hE : isD E) (hne : D ≠ E) (hC : CD W σ E S) (h6 : S.2.2.2 6 ≤ 1) (hF : 100000 ≤ F) : ∃ σ', g_X3_takes F σ D E = some (D, σ') ∧ kj (rT D) σ σ' ∧ CD W σ' D S := by
  have far : D + 15 ≤ E ∨ E + 15 ≤ D := by unfold isD at hD hE; omega
  obtain ⟨s1, e1, k1, d1⟩ := e_X4_takes (F := F) (hD.B l) (hE.B l) hC.1 (by omega) (by omega)
  have k1j := k1.j (R := rT D) (fun x y q => by have q : D + 1 + 2 ≤ x ∧ x < D + 1 + 12 := q; unfold rT; omega)
  have nT : ∀ x y, (x = E ∨ (E + 3 ≤ x ∧ x ≤ E + 14)) → ¬ rT D x y := fun x y q => by unfold rT; omega
  unfold g_X3_takes
  rw [if_pos (hD.T l), dbP l hD, Option.bind_some, dbP l hE, Option.bind_some, e1, bq_some]
  -- how often each had it
  obtain ⟨s2, ⟨k2, h2⟩, he2⟩ := yl1 (l_X3_takes_14 (fun (σ9 : MM) => l_X3_takes_40 (fun (σ14 : MM) => (gI σ14 E 2 16 3).bind fun v15 => (pI σ14 D 2 16 3 v15).bind fun σ16 => (gI σ16 E 2 16 4).bind fun v17 => (pI σ16 D 2 16 4 v17).bind fun σ18 => (gI σ18 E 2 16 5).bind fun v19 => (pI σ18 D 2 16 5 v19).bind fun σ20 => (gI σ20 E 2 16 6).bind fun v21 => (pI σ20 D 2 16 6 v21).bind fun σ22 => (gI σ22 E 2 16 7).bind fun v23 => (pI σ22 D 2 16 7 v23).bind fun σ24 => (gI σ24 E 2 16 8).bind fun v25 => (pI σ24 D 2 16 8 v25).bind fun σ26 => (gI σ26 E 2 16 9).bind fun v27 => (pI σ26 D 2 16 9 v27).bind fun σ28 => (gI σ28 E 2 16 10).bind fun v29 => (pI σ28 D 2 16 10 v29).bind fun σ30 => (gI σ30 E 2 16 14).bind fun v31 => (pZ σ30 D 2 16 14 v31).bind fun σ32 => some (D, σ32)) F D E F 0 σ9) F D E) _ (fun i s => kj (fun x y => x = D + 13) s1 s ∧ ∀ p, p < i → mI s (D + 13) p = S.2.1 p) 10 (by
    intro f i s hi ⟨hk, hh⟩
    have ls := hk.ly (k1.ly l)
    have hr : mI s (E + 13) i = S.2.1 i := by
      rw [hk.2 _ _ (by omega), congrFun (k1.2 (E + 13) (fun q => by have q : D + 1 + 2 ≤ E + 13 ∧ E + 13 < D + 1 + 12 := q; omega)) i]
      exact hC.2.1 i hi
    refine ⟨wI s (D + 13) i (S.2.1 i), ⟨hk.trans (kj.w rfl), fun p hp => ?_⟩, ?_⟩
    · by_cases c : p = i
      · subst c; exact mI_ws
      · rw [mI_wy c]; exact hh p (by omega)
    · rw [l_X3_takes_14.eq_2, if_pos (ten_in hi), gP_T (hD.T ls), Option.bind_some, hD.P1 ls, gP_T (hE.T ls), Option.bind_some, hE.P1 ls, aI_T (by rw [hE.T13 ls]) (by rw [hE.T13 ls]; exact hi) (by rw [hE.T13 ls]; decide), Option.bind_some, hr, sI_T (by rw [hD.T13 ls]) (by rw [hD.T13 ls]; exact hi) (by rw [hD.T13 ls]; decide), Option.bind_some, nI_1]) (by
    intro f s _
    rw [l_X3_takes_14.eq_2, if_neg ten_no]) (f := F) (by omega) ⟨kj.refl, fun p hp => absurd hp (by omega)⟩
  rw [he2]
  (try dsimp only)
  have k2j := k2.mono (R' := rT D) (fun x y q => by have q : x = D + 13 := q; unfold rT; omega)
  -- the chalk
  obtain ⟨s3, ⟨k3, h3⟩, he3⟩ := yl1 (l_X3_takes_40 (fun (σ14 : MM) => (gI σ14 E 2 16 3).bind fun v15 => (pI σ14 D 2 16 3 v15).bind fun σ16 => (gI σ16 E 2 16 4).bind fun v17 => (pI σ16 D 2 16 4 v17).bind fun σ18 => (gI σ18 E 2 16 5).bind fun v19 => (pI σ18 D 2 16 5 v19).bind fun σ20 => (gI σ20 E 2 16 6).bind fun v21 => (pI σ20 D 2 16 6 v21).bind fun σ22 => (gI σ22 E 2 16 7).bind fun v23 => (pI σ22 D 2 16 7 v23).bind fun σ24 => (gI σ24 E 2 16 8).bind fun v25 => (pI σ24 D 2 16 8 v25).bind fun σ26 => (gI σ26 E 2 16 9).bind fun v27 => (pI σ26 D 2 16 9 v27).bind fun σ28 => (gI σ28 E 2 16 10).bind fun v29 => (pI σ28 D 2 16 10 v29).bind fun σ30 => (gI σ30 E 2 16 14).bind fun v31 => (pZ σ30 D 2 16 14 v31).bind fun σ32 => some (D, σ32)) F D E) _ (fun i s => kj (fun x y => x = D + 14) s2 s ∧ ∀ p, p < i → mI s (D + 14) p = mI σ (E + 14) p) 40 (by
    intro f i s hi ⟨hk, hh⟩
    have ls := hk.ly (k2.ly (k1.ly l))
    have hr : mI s (E + 14) i = mI σ (E + 14) i := by
      rw [hk.2 _ _ (by omega), k2.2 _ _ (by omega), congrFun (k1.2 (E + 14) (fun q => by have q : D + 1 + 2 ≤ E + 14 ∧ E + 14 < D + 1 + 12 := q; omega)) i]
    refine ⟨wI s (D + 14) i (mI σ (E + 14) i), ⟨hk.trans (kj.w rfl), fun p hp => ?_⟩, ?_⟩
    · by_cases c : p = i
      · subst c; exact mI_ws
      · rw [mI_wy c]; exact hh p (by omega)
    · rw [l_X3_takes_40.eq_2, if_pos (show nI i < 40 from nI_lt (b := 40) hi (by decide)), gP_T (hD.T ls), Option.bind_some, hD.P2 ls, gP_T (hE.T ls), Option.bind_some, hE.P2 ls, aI_T (by rw [hE.T14 ls]) (by rw [hE.T14 ls]; exact hi) (by rw [hE.T14 ls]; decide), Option.bind_some, hr, sI_T (by rw [hD.T14 ls]) (by rw [hD.T14 ls]; exact hi) (by rw [hD.T14 ls]; decide), Option.bind_some, nI_1]) (by
    intro f s _
    rw [l_X3_takes_40.eq_2, if_neg (by decide)]) (f := F) (by omega) ⟨kj.refl, fun p hp => absurd hp (by omega)⟩
  rw [he3]
  (try dsimp only)
  have k3j := k3.mono (R' := rT D) (fun x y q => by have q : x = D + 14 := q; unfold rT; omega)
  have kall := (k1j.trans k2j).trans k3j
  have l3 := kall.ly l
  have eE : ∀ y, mI s3 E y = mI σ E y := fun y => kall.2 E y (nT E y (Or.inl rfl))
  have C3 : ∀ p, p < 10 → mI s3 (D + 13) p = S.2.1 p := fun p hp => by rw [k3.2 _ _ (by omega)]; exact h2 p hp
  have D3 : ∀ a, a < 10 → ∀ b, b < 10 → mI s3 (D + 1 + 2 + a) b = nI (S.1 a b) := fun a ha b hb => by
    rw [k3.2 _ _ (by omega), k2.2 _ _ (by omega)]; exact d1 a ha b hb
  obtain ⟨c1, c2, ⟨w, w1, w2, w3, w4⟩, c4, c5, c6, c7, c8, c9, c10⟩ := hC
  clear he2 he3 e1
  have hz : mI σ E 14 = 0 ∨ mI σ E 14 = 1 := by
    rw [c9]
    rcases (show S.2.2.2 6 = 0 ∨ S.2.2.2 6 = 1 by omega) with h | h <;> rw [h]
    · exact Or.inl rfl
    · exact Or.inr rfl
  have wr : ∀ {s : MM} {j : Nat} {v : Int32}, (j < 11 ∨ 13 < j) → kj (rT D) s (wI s D j v) := fun hj => kj.w (Or.inl ⟨rfl, hj⟩)
  have step : ∀ (s : MM), lay s → ∀ j v, lay (wI s D j v) := fun s h j v => h
  have eW : ∀ {s : MM} {j : Nat} {v : Int32} {y : Nat}, mI (wI s D j v) E y = mI s E y := fun {s j v y} => by rw [mI_wn (Ne.symm hne)]
  refine ⟨wI (wI (wI (wI (wI (wI (wI (wI (wI s3 D 3 (mI σ E 3)) D 4 (mI σ E 4)) D 5 (mI σ E 5)) D 6 (mI σ E 6)) D 7 (mI σ E 7)) D 8 (mI σ E 8)) D 9 (mI σ E 9)) D 10 (mI σ E 10)) D 14 (mI σ E 14), ?_, ?_, ?_⟩
  · have a3 := step s3 l3 3 (mI σ E 3)
    have a4 := step _ a3 4 (mI σ E 4)
    have a5 := step _ a4 5 (mI σ E 5)
    have a6 := step _ a5 6 (mI σ E 6)
    have a7 := step _ a6 7 (mI σ E 7)
    have a8 := step _ a7 8 (mI σ E 8)
    have a9 := step _ a8 9 (mI σ E 9)
    have a10 := step _ a9 10 (mI σ E 10)
    rw [gI_T (hE.T l3), Option.bind_some, eE, pI_T (hD.T l3), Option.bind_some, gI_T (hE.T a3), Option.bind_some, eW, eE, pI_T (hD.T a3), Option.bind_some, gI_T (hE.T a4), Option.bind_some, eW, eW, eE, pI_T (hD.T a4), Option.bind_some, gI_T (hE.T a5), Option.bind_some, eW, eW, eW, eE, pI_T (hD.T a5), Option.bind_some, gI_T (hE.T a6), Option.bind_some, eW, eW, eW, eW, eE, pI_T (hD.T a6), Option.bind_some, gI_T (hE.T a7), Option.bind_some, eW, eW, eW, eW, eW, eE, pI_T (hD.T a7), Option.bind_some, gI_T (hE.T a8), Option.bind_some, eW, eW, eW, eW, eW, eW, eE, pI_T (hD.T a8), Option.bind_some, gI_T (hE.T a9), Option.bind_some, eW, eW, eW, eW, eW, eW, eW, eE, pI_T (hD.T a9), Option.bind_some, gI_T (hE.T a10), Option.bind_some, eW, eW, eW, eW, eW, eW, eW, eW, eE, pZ_T (hD.T a10) hz, Option.bind_some]
  · exact kall.trans ((wr (by decide)).trans ((wr (by decide)).trans ((wr (by decide)).trans ((wr (by decide)).trans ((wr (by decide)).trans ((wr (by decide)).trans ((wr (by decide)).trans ((wr (by decide)).trans (wr (by decide))))))))))
  · have r1 : ∀ x, x ≠ D → mI (wI (wI (wI (wI (wI (wI (wI (wI (wI s3 D 3 (mI σ E 3)) D 4 (mI σ E 4)) D 5 (mI σ E 5)) D 6 (mI σ E 6)) D 7 (mI σ E 7)) D 8 (mI σ E 8)) D 9 (mI σ E 9)) D 10 (mI σ E 10)) D 14 (mI σ E 14)) x = mI s3 x := fun x hx => by
      rw [mI_wn hx, mI_wn hx, mI_wn hx, mI_wn hx, mI_wn hx, mI_wn hx, mI_wn hx, mI_wn hx, mI_wn hx]
    have g14 : mI (wI (wI (wI (wI (wI (wI (wI (wI (wI s3 D 3 (mI σ E 3)) D 4 (mI σ E 4)) D 5 (mI σ E 5)) D 6 (mI σ E 6)) D 7 (mI σ E 7)) D 8 (mI σ E 8)) D 9 (mI σ E 9)) D 10 (mI σ E 10)) D 14 (mI σ E 14)) D 14 = mI σ E 14 := mI_ws
    have g10 : mI (wI (wI (wI (wI (wI (wI (wI (wI (wI s3 D 3 (mI σ E 3)) D 4 (mI σ E 4)) D 5 (mI σ E 5)) D 6 (mI σ E 6)) D 7 (mI σ E 7)) D 8 (mI σ E 8)) D 9 (mI σ E 9)) D 10 (mI σ E 10)) D 14 (mI σ E 14)) D 10 = mI σ E 10 := by rw [mI_wy (by decide), mI_ws]
    have g9 : mI (wI (wI (wI (wI (wI (wI (wI (wI (wI s3 D 3 (mI σ E 3)) D 4 (mI σ E 4)) D 5 (mI σ E 5)) D 6 (mI σ E 6)) D 7 (mI σ E 7)) D 8 (mI σ E 8)) D 9 (mI σ E 9)) D 10 (mI σ E 10)) D 14 (mI σ E 14)) D 9 = mI σ E 9 := by rw [mI_wy (by decide), mI_wy (by decide), mI_ws]
    have g8 : mI (wI (wI (wI (wI (wI (wI (wI (wI (wI s3 D 3 (mI σ E 3)) D 4 (mI σ E 4)) D 5 (mI σ E 5)) D 6 (mI σ E 6)) D 7 (mI σ E 7)) D 8 (mI σ E 8)) D 9 (mI σ E 9)) D 10 (mI σ E 10)) D 14 (mI σ E 14)) D 8 = mI σ E 8 := by rw [mI_wy (by decide), mI_wy (by decide), mI_wy (by decide), mI_ws]
    have g7 : mI (wI (wI (wI (wI (wI (wI (wI (wI (wI s3 D 3 (mI σ E 3)) D 4 (mI σ E 4)) D 5 (mI σ E 5)) D 6 (mI σ E 6)) D 7 (mI σ E 7)) D 8 (mI σ E 8)) D 9 (mI σ E 9)) D 10 (mI σ E 10)) D 14 (mI σ E 14)) D 7 = mI σ E 7 := by rw [mI_wy (by decide), mI_wy (by decide), mI_wy (by decide), mI_wy (by decide), mI_ws]
    have g6 : mI (wI (wI (wI (wI (wI (wI (wI (wI (wI s3 D 3 (mI σ E 3)) D 4 (mI σ E 4)) D 5 (mI σ E 5)) D 6 (mI σ E 6)) D 7 (mI σ E 7)) D 8 (mI σ E 8)) D 9 (mI σ E 9)) D 10 (mI σ E 10)) D 14 (mI σ E 14)) D 6 = mI σ E 6 := by rw [mI_wy (by decide), mI_wy (by decide), mI_wy (by decide), mI_wy (by decide), mI_wy (by decide), mI_ws]
    have g5 : mI (wI (wI (wI (wI (wI (wI (wI (wI (wI s3 D 3 (mI σ E 3)) D 4 (mI σ E 4)) D 5 (mI σ E 5)) D 6 (mI σ E 6)) D 7 (mI σ E 7)) D 8 (mI σ E 8)) D 9 (mI σ E 9)) D 10 (mI σ E 10)) D 14 (mI σ E 14)) D 5 = mI σ E 5 := by rw [mI_wy (by decide), mI_wy (by decide), mI_wy (by decide), mI_wy (by decide), mI_wy (by decide), mI_wy (by decide), mI_ws]
    have g4 : mI (wI (wI (wI (wI (wI (wI (wI (wI (wI s3 D 3 (mI σ E 3)) D 4 (mI σ E 4)) D 5 (mI σ E 5)) D 6 (mI σ E 6)) D 7 (mI σ E 7)) D 8 (mI σ E 8)) D 9 (mI σ E 9)) D 10 (mI σ E 10)) D 14 (mI σ E 14)) D 4 = mI σ E 4 := by rw [mI_wy (by decide), mI_wy (by decide), mI_wy (by decide), mI_wy (by decide), mI_wy (by decide), mI_wy (by decide), mI_wy (by decide), mI_ws]
    have g3 : mI (wI (wI (wI (wI (wI (wI (wI (wI (wI s3 D 3 (mI σ E 3)) D 4 (mI σ E 4)) D 5 (mI σ E 5)) D 6 (mI σ E 6)) D 7 (mI σ E 7)) D 8 (mI σ E 8)) D 9 (mI σ E 9)) D 10 (mI σ E 10)) D 14 (mI σ E 14)) D 3 = mI σ E 3 := by rw [mI_wy (by decide), mI_wy (by decide), mI_wy (by decide), mI_wy (by decide), mI_wy (by decide), mI_wy (by decide), mI_wy (by decide), mI_wy (by decide), mI_ws]
    generalize wI (wI (wI (wI (wI (wI (wI (wI (wI s3 D 3 (mI σ E 3)) D 4 (mI σ E 4)) D 5 (mI σ E 5)) D 6 (mI σ E 6)) D 7 (mI σ E 7)) D 8 (mI σ E 8)) D 9 (mI σ E 9)) D 10 (mI σ E 10)) D 14 (mI σ E 14) = s9 at *
    refine ⟨fun a ha b hb => ?_, fun p hp => ?_, ⟨w, w1, by rw [g10]; exact w2, w3, fun k hk => ?_⟩, by rw [g3]; exact c4, by rw [g5]; exact c5, fun q => by rw [g4, g6]; exact c6 q, by rw [g7]; exact c7, by rw [g8]; exact c8, by rw [g14]; exact c9, by rw [g9]; exact c10⟩
    · rw [r1 _ (by omega)]; exact D3 a ha b hb
    · rw [r1 _ (by omega)]; exact C3 p hp
    · rw [r1 _ (by omega), h3 _ (Nat.mod_lt _ (by decide))]; exact w4 k hk
/-- the model's rows -/
theorem e_X6_copies {A A' : Nat} (l : lay σ) (hA : A = 86 ∨ A = 87 ∨ A = 88) (hA' : A' = 86 ∨ A' = 87 ∨ A' = 88) (hne : A ≠ A') (hF : 100000 ≤ F) : ∃ σ', g_X6_copies F σ A A' = some σ' ∧ kp (fun x => x = A') σ σ' ∧ ∀ k, k < 159 → mI σ' A' k = mI σ A k := by
  have TA : ∀ {s : MM}, lay s → mT s A = (20, 159) := fun h => by rcases hA with q | q | q <;> subst q <;> first | exact T86 h | exact T87 h | exact T88 h
  have TA' : ∀ {s : MM}, lay s → mT s A' = (20, 159) := fun h => by rcases hA' with q | q | q <;> subst q <;> first | exact T86 h | exact T87 h | exact T88 h
  unfold g_X6_copies
  obtain ⟨s, ⟨k1, h1⟩, he⟩ := yl1 (l_X6_copies_2 (fun (σ3 : MM) => some σ3) F A A') (fun σ => some σ) (fun i s => kp (fun x => x = A') σ s ∧ ∀ k, k < i → mI s A' k = mI σ A k) 159 (by
    intro f i s hi ⟨hk, hh⟩
    have ls := hk.ly l
    refine ⟨wI s A' i (mI σ A i), ⟨hk.trans (kp.w rfl), fun p hp => ?_⟩, ?_⟩
    · by_cases c : p = i
      · subst c; exact mI_ws
      · rw [mI_wy c]; exact hh p (by omega)
    · rw [l_X6_copies_2.eq_2, if_pos (show nI i < 159 from nI_lt (b := 159) hi (by decide)), aI_T (by rw [TA ls]) (by rw [TA ls]; exact hi) (by rw [TA ls]; decide), Option.bind_some, hk.2 A hne, sI_T (by rw [TA' ls]) (by rw [TA' ls]; exact hi) (by rw [TA' ls]; decide), Option.bind_some, nI_1]) (by
    intro f s _
    rw [l_X6_copies_2.eq_2, if_neg (by decide)]) (f := F) (by omega) ⟨kp.refl, fun p hp => absurd hp (by omega)⟩
  exact ⟨s, he, k1, h1⟩
theorem MD.cp {A A' : Nat} {σ' : MM} (h : MD σ A S) (hlen : S.2.2.1.length ≤ 40) (e : ∀ k, k < 159 → mI σ' A' k = mI σ A k) : MD σ' A' S := by
  obtain ⟨m1, m2, ⟨m3, m4⟩, m5, m6, m7, m8, m9, m10, m11, m12⟩ := h
  refine ⟨fun a ha b hb => ?_, fun p hp => ?_, ⟨?_, fun k hk => ?_⟩, ?_, ?_, fun q => ?_, ?_, ?_, ?_, ?_, ?_⟩
  · rw [e _ (by omega)]; exact m1 a ha b hb
  · rw [e _ (by omega)]; exact m2 p hp
  · rw [e _ (by omega)]; exact m3
  · rw [e _ (by omega)]; exact m4 k hk
  · rw [e _ (by omega)]; exact m5
  · rw [e _ (by omega)]; exact m6
  · rw [e _ (by omega)]; exact m7 q
  · rw [e _ (by omega)]; exact m8
  · rw [e _ (by omega)]; exact m9
  · rw [e _ (by omega)]; exact m10
  · rw [e _ (by omega)]; exact m11
  · rw [e _ (by omega)]; exact m12
end TAKES
