/-! WHAT THE LAW IS ASKED OF -/
/-- facts of a pair, and of a time alone -/
def fx2 (S : DS) (xs ys : Nat → Nat) (a b : Nat) : Nat → Int32 := fun j => match j with
  | 0 => nI a | 1 => nI b | 2 => nI (S.1 a b) | 3 => nI (owesS S.1 a) | 4 => nI (wayS xs ys a b) | 5 => nI (chS S.2.2.1 b) | 6 => nI (S.2.2.2 4) | 7 => nI (S.2.2.2 5) | _ => 0
def fx0 (t y : Nat) : Nat → Int32 := fun j => match j with
  | 6 => nI t | 7 => nI y | _ => 0
theorem f8_eq {g h : Nat → Int32} (h0 : g 0 = h 0) (h1 : g 1 = h 1) (h2 : g 2 = h 2) (h3 : g 3 = h 3) (h4 : g 4 = h 4) (h5 : g 5 = h 5) (h6 : g 6 = h 6) (h7 : g 7 = h 7) (h8 : ∀ j, 8 ≤ j → h j = 0) : f8 g = h := by
  funext j
  unfold f8
  by_cases c : j < 8
  · rw [if_pos c]
    match j, c with
    | 0, _ => exact h0
    | 1, _ => exact h1
    | 2, _ => exact h2
    | 3, _ => exact h3
    | 4, _ => exact h4
    | 5, _ => exact h5
    | 6, _ => exact h6
    | 7, _ => exact h7
    | n + 8, c => exact absurd c (by omega)
  · rw [if_neg c, h8 j (by omega)]
section FACTS
variable {σ : MM} {F D W t Y : Nat} {S : DS} {xs ys : Nat → Nat}
theorem e_X2_at {x y : Int32} (l : lay σ) : g_X2_at F σ 4 x y = some (4, wI (wI (wI (wI (wI (wI (wI (wI σ 4 1 0) 4 2 0) 4 3 0) 4 4 0) 4 5 0) 4 6 0) 4 7 x) 4 8 y) := by
  unfold g_X2_at
  simp only [gI_T, gP_T, pI_T, pP_T, pZ_T, aI_T, aP_T, sI_T, sB_T, Option.bind_some, bq_some, jn_eq, nw_eq, mT_wI, mP_wI, mN_wI, Nat.reduceLT, T4 l, if_true]
theorem CD.keep {σ σ' : MM} (h : CD W σ D S) (hk : ∀ a, (a = D ∨ (D + 3 ≤ a ∧ a ≤ D + 14)) → mI σ' a = mI σ a) : CD W σ' D S := by
  obtain ⟨c1, c2, ⟨w, w1, w2, w3, w4⟩, c4, c5, c6, c7, c8, c9, c10⟩ := h
  have hD := hk D (Or.inl rfl)
  refine ⟨fun a ha b hb => ?_, fun p hp => ?_, ⟨w, w1, by rw [hD]; exact w2, w3, fun k hk9 => ?_⟩, by rw [hD]; exact c4, by rw [hD]; exact c5, fun q => by rw [hD]; exact c6 q, by rw [hD]; exact c7, by rw [hD]; exact c8, by rw [hD]; exact c9, by rw [hD]; exact c10⟩
  · rw [hk _ (Or.inr ⟨by omega, by omega⟩)]; exact c1 a ha b hb
  · rw [hk _ (Or.inr ⟨by omega, by omega⟩)]; exact c2 p hp
  · rw [hk _ (Or.inr ⟨by omega, by omega⟩)]; exact w4 k hk9
theorem CE.keep {σ σ' : MM} (h : CE σ t xs ys) (h1 : mI σ' 1 2 = mI σ 1 2) (h2 : mI σ' 2 = mI σ 2) (h3 : mI σ' 3 = mI σ 3) : CE σ' t xs ys := by
  unfold CE at h ⊢
  rw [h1, h2, h3]
  exact h
theorem ME.keep {σ σ' : MM} (h : ME σ t xs ys) (h1 : mI σ' 85 5 = mI σ 85 5) (h2 : mI σ' 89 = mI σ 89) (h3 : mI σ' 90 = mI σ 90) : ME σ' t xs ys := by
  unfold ME at h ⊢
  rw [h1, h2, h3]
  exact h
theorem MD.keep {A : Nat} {σ σ' : MM} (h : MD σ A S) (h1 : mI σ' A = mI σ A) : MD σ' A S := by
  unfold MD hasL at h ⊢
  rw [h1]
  exact h
theorem isD.ne4 (hD : isD D) {a : Nat} (h : a = D ∨ (D + 3 ≤ a ∧ a ≤ D + 14)) : a ≠ 4 := by
  rcases hD with e | e | e <;> subst e <;> omega
/-- the moment of a pair -/
theorem e_X2_of {a b : Nat} (l : lay σ) (hD : isD D) (hC : CD W σ D S) (hW : W < 2147483648) (hw : DW t Y S) (hE : CE σ t xs ys) (ha : a < 10) (hb : b < 10) (hF : 100000 ≤ F) : ∃ σ', g_X2_of F σ 4 D (nI a) (nI b) = some (4, σ') ∧ kp (fun x => x = 4) σ σ' ∧ fC σ' = fx2 S xs ys a b := by
  have c4 := hC
  obtain ⟨c1, c2, c3, -, -, -, c7, c8, -⟩ := c4
  unfold g_X2_of
  rw [if_pos (T4 l), gI_T (hD.T l), Option.bind_some, gI_T (hD.T l), Option.bind_some, c7, c8, e_X2_at l, bq_some]
  have hk8 : kp (fun x => x = 4) σ (wI (wI (wI (wI (wI (wI (wI (wI σ 4 1 0) 4 2 0) 4 3 0) 4 4 0) 4 5 0) 4 6 0) 4 7 (nI (S.2.2.2 4))) 4 8 (nI (S.2.2.2 5))) := ⟨rfl, fun x hx => by
    have hx : x ≠ 4 := hx
    simp only [mI_wn hx]⟩
  have f7 : mI (wI (wI (wI (wI (wI (wI (wI (wI σ 4 1 0) 4 2 0) 4 3 0) 4 4 0) 4 5 0) 4 6 0) 4 7 (nI (S.2.2.2 4))) 4 8 (nI (S.2.2.2 5))) 4 7 = nI (S.2.2.2 4) := by rw [mI_wy (by decide), mI_ws]
  have f8' : mI (wI (wI (wI (wI (wI (wI (wI (wI σ 4 1 0) 4 2 0) 4 3 0) 4 4 0) 4 5 0) 4 6 0) 4 7 (nI (S.2.2.2 4))) 4 8 (nI (S.2.2.2 5))) 4 8 = nI (S.2.2.2 5) := mI_ws
  generalize (wI (wI (wI (wI (wI (wI (wI (wI σ 4 1 0) 4 2 0) 4 3 0) 4 4 0) 4 5 0) 4 6 0) 4 7 (nI (S.2.2.2 4))) 4 8 (nI (S.2.2.2 5))) = s0 at hk8 f7 f8' ⊢
  have l0 := hk8.ly l
  have w_ : ∀ {s : MM} {j : Nat} {v : Int32}, kp (fun x => x = 4) σ s → kp (fun x => x = 4) σ (wI s 4 j v) := fun h => h.trans (kp.w rfl)
  have keepC : ∀ {s : MM}, kp (fun x => x = 4) σ s → CD W s D S := fun h => hC.keep (fun a q => h.2 a (hD.ne4 q))
  have keepE : ∀ {s : MM}, kp (fun x => x = 4) σ s → CE s t xs ys := fun h => hE.keep (by rw [h.2 1 (by decide)]) (h.2 2 (by decide)) (h.2 3 (by decide))
  have k1 := w_ hk8 (j := 1) (v := nI a)
  have k2 := w_ k1 (j := 2) (v := nI b)
  have d2 := (keepC k2).1 a ha b hb
  have l2 := k2.ly l
  rw [pI_T (T4 l0), Option.bind_some, pI_T (T4 (k1.ly l)), Option.bind_some]
  obtain ⟨t1, p1, t2, hr⟩ := hD.B l2
  rw [gP_T (hD.T l2), Option.bind_some, hD.P0 l2, gP_T t1, Option.bind_some, p1, aP_T (by rw [t2]) (by rw [t2]; exact ha) (by rw [t2]; decide), Option.bind_some, (hr a ha).1, aI_T (by rw [(hr a ha).2]) (by rw [(hr a ha).2]; exact hb) (by rw [(hr a ha).2]; decide), Option.bind_some, d2]
  have k3 := w_ k2 (j := 3) (v := nI (S.1 a b))
  have l3 := k3.ly l
  rw [pI_T (T4 l2), Option.bind_some, gP_T (hD.T l3), Option.bind_some, hD.P0 l3, e_X4_owes (hD.B l3) (keepC k3).1 ha (by omega), bq_some]
  have k4' := w_ k3 (j := 4) (v := nI (owesS S.1 a))
  have l4 := k4'.ly l
  rw [pI_T (T4 l3), Option.bind_some, gP_T (T4 l4), Option.bind_some, P4_9 l4, e_way l4 (keepE k4') ha hb, bq_some]
  have k5 := w_ k4' (j := 5) (v := nI (wayS xs ys a b))
  have l5 := k5.ly l
  rw [pI_T (T4 l4), Option.bind_some, e_X3_chalked l5 hD (keepC k5) hW hw hb (by omega), bq_some]
  have k6 := w_ k5 (j := 6) (v := nI (chS S.2.2.1 b))
  rw [pI_T (T4 l5), Option.bind_some]
  refine ⟨_, rfl, k6, ?_⟩
  refine f8_eq ?_ ?_ ?_ ?_ ?_ ?_ ?_ ?_ (fun j hj => ?_)
  · simp only [mI_wI]; rfl
  · simp only [mI_wI]; rfl
  · simp only [mI_wI]; rfl
  · simp only [mI_wI]; rfl
  · simp only [mI_wI]; rfl
  · simp only [mI_wI]; rfl
  · simp only [mI_wI]; exact f7
  · simp only [mI_wI]; exact f8'
  · match j, hj with
    | n + 8, _ => rfl
theorem kp4_kt {σ0 s : MM} (g : kt σ0 σ) (h : kp (fun x => x = 4) σ s) : kt σ0 s := ⟨h.ly g.1, fun a ha hn => by
  obtain ⟨g1, g2, g3⟩ := g.2 a ha hn
  refine ⟨(h.2 a (fun e => ?_)).trans g1, by rw [h.P]; exact g2, by rw [h.T]; exact g3⟩
  have e : a = 4 := e
  subst e
  rcases ha with ha | ha <;> omega⟩
theorem kt.refl (l : lay σ) : kt σ σ := ⟨l, fun _ _ _ => ⟨rfl, rfl, rfl⟩⟩
/-- the law asked, the facts in the moment -/
theorem e_X2_tells {σ0 : MM} {L : LW} {c most : Int32} (hc9 : c ≠ 115) (hC : CL σ0 L) (hF : 100000 ≤ F) (g : kt σ0 σ) (hp : mP σ 1 8 = mP σ0 1 8) : ∃ σ', k4 σ σ' ∧ g_X2_tells F σ 4 c most = some (heldS (tellsS L c (fC σ)) most, σ') := by
  obtain ⟨σ', h1, h2⟩ := e_X5_tells hc9 hC hF g
  refine ⟨σ', h1, ?_⟩
  unfold g_X2_tells
  rw [if_pos (T4 g.1), gP_T (T4 g.1), Option.bind_some, P4_9 g.1, gP_T (T1 g.1), Option.bind_some, hp, h2, bq_some]
  rfl
theorem saysS_01 (L : LW) (c : Int32) (fx : Nat → Int32) : saysS L c fx = 0 ∨ saysS L c fx = 1 := by
  unfold saysS
  cases firstS L c fx L.1 0 with
  | none => exact Or.inl rfl
  | some k => exact Or.inr rfl
theorem e_X2_willNot {σ0 : MM} {L : LW} (hC : CL σ0 L) (hF : 100000 ≤ F) (g : kt σ0 σ) (hp : mP σ 1 8 = mP σ0 1 8) : ∃ σ', k4 σ σ' ∧ g_X2_willNot F σ 4 = some (saysS L 115 (fC σ), σ') := by
  obtain ⟨σ', h1, h2⟩ := e_X5_says (c := 115) hC hF g
  refine ⟨σ', h1, ?_⟩
  unfold g_X2_willNot
  rw [if_pos (T4 g.1), gP_T (T4 g.1), Option.bind_some, P4_9 g.1, gP_T (T1 g.1), Option.bind_some, hp, h2, bq_some]
  unfold rz
  rw [if_pos (saysS_01 L 115 (fC σ))]
  rfl
/-- how much one likes to pay another -/
def likeS (L : LW) (fx : Nat → Int32) : Int32 := if saysS L 115 fx = 0 then heldS (tellsS L 101 fx) 9999 else 0
theorem e_X0_likingOf {σ0 : MM} {L : LW} {a b : Nat} (hL : CL σ0 L) (g : kt σ0 σ) (hp : mP σ 1 8 = mP σ0 1 8) (hD : isD D) (hC : CD W σ D S) (hW : W < 2147483648) (hw : DW t Y S) (hE : CE σ t xs ys) (ha : a < 10) (hb : b < 10) (hF : 100000 ≤ F) : ∃ σ', kp (fun x => x = 4) σ σ' ∧ g_X0_likingOf F σ 1 D (nI a) (nI b) = some (likeS L (fx2 S xs ys a b), σ') := by
  have l := g.1
  obtain ⟨s1, h1, h2, h3⟩ := e_X2_of l hD hC hW hw hE ha hb hF
  have g1 := kp4_kt g h2
  obtain ⟨s2, h4, h5⟩ := e_X2_willNot hL hF g1 (by rw [h2.P]; exact hp)
  have k2 := h2.trans h4.1
  unfold g_X0_likingOf
  rw [if_pos (T1 l), gP_T (T1 l), Option.bind_some, P1_3 l, h1, bq_some, h5, bq_some, h3]
  unfold likeS
  by_cases c : saysS L 115 (fx2 S xs ys a b) = 0
  · have l2 := k2.ly l
    obtain ⟨s3, e1, e2, e3⟩ := e_X2_of l2 hD (hC.keep (fun a q => k2.2 a (hD.ne4 q))) hW hw (hE.keep (by rw [k2.2 1 (by decide)]) (k2.2 2 (by decide)) (k2.2 3 (by decide))) ha hb hF
    have k3 := k2.trans e2
    obtain ⟨s4, e4, e5⟩ := e_X2_tells (most := 9999) (c := 101) (by decide) hL hF (kp4_kt g k3) (by rw [k3.P]; exact hp)
    rw [if_pos c, if_pos c, gP_T (T1 l2), Option.bind_some, P1_3 l2, e1, bq_some, e5, bq_some, e3]
    exact ⟨s4, k3.trans e4.1, rfl⟩
  · rw [if_neg c, if_neg c]
    exact ⟨s2, k2, rfl⟩
/-- the model's facts -/
theorem e_X6_feels {h : Int32} (l : lay σ) (hF : 100000 ≤ F) : ∃ σ', kp (fun x => x = 104) σ σ' ∧ g_X6_feels F σ 85 h = some σ' ∧ (∀ j, j < 6 → mI σ' 104 j = 0) ∧ mI σ' 104 6 = h ∧ mI σ' 104 7 = mI σ 86 156 := by
  unfold g_X6_feels
  rw [if_pos (T85 l)]
  obtain ⟨s, ⟨hk, h0⟩, he⟩ := yl1 (l_X6_feels_2 (fun (σ3 : MM) => (gP σ3 85 5 62 29).bind fun p4 => (sI σ3 p4 6 h).bind fun σ5 => (gP σ5 85 5 62 29).bind fun p6 => (gP σ5 85 5 62 0).bind fun p7 => (aI σ5 p7 20 156).bind fun v8 => (sI σ5 p6 7 v8).bind fun σ9 => some σ9) F 85 h) (fun (σ3 : MM) => (gP σ3 85 5 62 29).bind fun p4 => (sI σ3 p4 6 h).bind fun σ5 => (gP σ5 85 5 62 29).bind fun p6 => (gP σ5 85 5 62 0).bind fun p7 => (aI σ5 p7 20 156).bind fun v8 => (sI σ5 p6 7 v8).bind fun σ9 => some σ9) (fun i s => kp (fun x => x = 104) σ s ∧ ∀ j, j < i → mI s 104 j = 0) 8 (by
    intro f i s hi ⟨hk, h0⟩
    have l1 := hk.ly l
    refine ⟨wI s 104 i 0, ⟨hk.trans (kp.w rfl), fun j hj => ?_⟩, ?_⟩
    · by_cases c : j = i
      · subst c; exact mI_ws
      · rw [mI_wy c]; exact h0 j (by omega)
    · rw [l_X6_feels_2.eq_2, if_pos (show nI i < 8 from nI_lt (b := 8) hi (by decide))]
      simp only [gI_T, gP_T, pI_T, pP_T, pZ_T, aI_T, aP_T, sI_T, sB_T, Option.bind_some, bq_some, jn_eq, nw_eq, mT_wI, mP_wI, mN_wI, Nat.reduceLT, T85 l1, P85_29 l1, T104 l1, hi, nI_1]) (by
    intro f s _
    rw [l_X6_feels_2.eq_2, if_neg (by decide)]) (f := F) (by omega) ⟨kp.refl, fun j hj => absurd hj (by omega)⟩
  have l1 := hk.ly l
  have w_ : ∀ {s : MM} {j : Nat} {v : Int32}, kp (fun x => x = 104) σ s → kp (fun x => x = 104) σ (wI s 104 j v) := fun h => h.trans (kp.w rfl)
  refine ⟨wI (wI s 104 6 h) 104 7 (mI σ 86 156), w_ (w_ hk), he.trans ?_, fun j hj => ?_, ?_, mI_ws⟩
  · (try dsimp only)
    rw [show (6 : Int32) = nI 6 from rfl, show (7 : Int32) = nI 7 from rfl, show (156 : Int32) = nI 156 from rfl]
    simp only [gI_T, gP_T, pI_T, pP_T, pZ_T, aI_T, aP_T, sI_T, sB_T, Option.bind_some, bq_some, jn_eq, nw_eq, mT_wI, mP_wI, mN_wI, Nat.reduceLT, T85 l1, P85_29 l1, P85_0 l1, T104 l1, T86 l1]
    rw [mI_wn (by decide), hk.2 86 (by decide)]
  · rw [mI_wy (by omega), mI_wy (by omega)]; exact h0 j (by omega)
  · rw [mI_wy (by decide), mI_ws]
theorem e_X6_feelsTwo {a b : Nat} (l : lay σ) (hM : MD σ 86 S) (hw : DW t Y S) (hE : ME σ t xs ys) (ha : a < 10) (hb : b < 10) (hF : 100000 ≤ F) : ∃ σ', kp (fun x => x = 104) σ σ' ∧ g_X6_feelsTwo F σ 85 (nI a) (nI b) = some σ' ∧ fM σ' = fx2 S xs ys a b := by
  have hM0 := hM
  obtain ⟨m1, -, -, -, -, -, -, m8, m9, -⟩ := hM0
  obtain ⟨s, hk, he, h0, h6, h7⟩ := e_X6_feels (F := F) (h := nI (S.2.2.2 4)) l hF
  have w_ : ∀ {s : MM} {j : Nat} {v : Int32}, kp (fun x => x = 104) σ s → kp (fun x => x = 104) σ (wI s 104 j v) := fun h => h.trans (kp.w rfl)
  have keepM : ∀ {s : MM}, kp (fun x => x = 104) σ s → MD s 86 S := fun h => hM.keep (h.2 86 (by decide))
  have keepE : ∀ {s : MM}, kp (fun x => x = 104) σ s → ME s t xs ys := fun h => hE.keep (by rw [h.2 85 (by decide)]) (h.2 89 (by decide)) (h.2 90 (by decide))
  have sI_ : ∀ {s : MM} {j : Nat} {v : Int32}, kp (fun x => x = 104) σ s → j < 8 → sI s 104 (nI j) v = some (wI s 104 j v) := fun h hj => by
    have l1 := h.ly l
    exact sI_T (by rw [T104 l1]) (by rw [T104 l1]; exact hj) (by rw [T104 l1]; decide)
  unfold g_X6_feelsTwo
  rw [if_pos (T85 l), gP_T (T85 l), Option.bind_some, P85_0 l, show (155 : Int32) = nI 155 from rfl, aI_T (by rw [T86 l]) (by rw [T86 l]; decide) (by rw [T86 l]; decide), Option.bind_some, m8, he, Option.bind_some]
  have gp : ∀ {s : MM}, kp (fun x => x = 104) σ s → gP s 85 5 62 29 = some 104 := fun h => by rw [gP_T (T85 (h.ly l)), P85_29 (h.ly l)]
  have k1 := w_ hk (j := 0) (v := nI a)
  have k2 := w_ k1 (j := 1) (v := nI b)
  have k3 := w_ k2 (j := 2) (v := nI (S.1 a b))
  have k4' := w_ k3 (j := 3) (v := nI (owesS S.1 a))
  have k5 := w_ k4' (j := 4) (v := nI (wayS xs ys a b))
  have k6 := w_ k5 (j := 5) (v := nI (chS S.2.2.1 b))
  have q0 : ∀ v, sI s 104 0 v = some (wI s 104 0 v) := fun v => sI_ hk (by decide)
  have q1 : ∀ v, sI (wI s 104 0 (nI a)) 104 1 v = some (wI (wI s 104 0 (nI a)) 104 1 v) := fun v => sI_ k1 (by decide)
  have q2 : ∀ v, sI (wI (wI s 104 0 (nI a)) 104 1 (nI b)) 104 2 v = some (wI _ 104 2 v) := fun v => sI_ k2 (by decide)
  have q3 : ∀ v, sI (wI (wI (wI s 104 0 (nI a)) 104 1 (nI b)) 104 2 (nI (S.1 a b))) 104 3 v = some (wI _ 104 3 v) := fun v => sI_ k3 (by decide)
  have q4 : ∀ v, sI (wI (wI (wI (wI s 104 0 (nI a)) 104 1 (nI b)) 104 2 (nI (S.1 a b))) 104 3 (nI (owesS S.1 a))) 104 4 v = some (wI _ 104 4 v) := fun v => sI_ k4' (by decide)
  have q5 : ∀ v, sI (wI (wI (wI (wI (wI s 104 0 (nI a)) 104 1 (nI b)) 104 2 (nI (S.1 a b))) 104 3 (nI (owesS S.1 a))) 104 4 (nI (wayS xs ys a b))) 104 5 v = some (wI _ 104 5 v) := fun v => sI_ k5 (by decide)
  rw [gp hk, Option.bind_some, q0, Option.bind_some, gp k1, Option.bind_some, q1, Option.bind_some, gp k2, Option.bind_some, e_X6_debtOf (k2.ly l) (keepM k2).1 ha hb, bq_some, q2, Option.bind_some, gp k3, Option.bind_some, e_X6_owesAll (k3.ly l) (keepM k3).1 ha (by omega), bq_some, q3, Option.bind_some, gp k4', Option.bind_some, e_wayM (k4'.ly l) (keepE k4') ha hb, bq_some, q4, Option.bind_some, gp k5, Option.bind_some, e_X6_chalksOf (k5.ly l) (keepM k5) hw hb (by omega), bq_some, q5, Option.bind_some]
  refine ⟨_, k6, rfl, ?_⟩
  refine f8_eq ?_ ?_ ?_ ?_ ?_ ?_ ?_ ?_ (fun j hj => ?_)
  · simp only [mI_wI]; rfl
  · simp only [mI_wI]; rfl
  · simp only [mI_wI]; rfl
  · simp only [mI_wI]; rfl
  · simp only [mI_wI]; rfl
  · simp only [mI_wI]; rfl
  · simp only [mI_wI]; exact h6
  · simp only [mI_wI]; exact h7.trans m9
  · match j, hj with
    | n + 8, _ => rfl
theorem kp104_cod {τ0 : MM} (g : kcod τ0 σ) {s : MM} (h : kp (fun x => x = 104) σ s) : kcod τ0 s := ⟨h.ly g.1, by rw [h.2 85 (by decide)]; exact g.2.1, fun a h1 h2 => (h.2 a (by omega)).trans (g.2.2 a h1 h2)⟩
/-- the model's liking -/
theorem e_X6_likesBy {τ0 : MM} {L : LW} {a b : Nat} (hL : ML τ0 L) (g : kcod τ0 σ) (hM : MD σ 86 S) (hw : DW t Y S) (hE : ME σ t xs ys) (ha : a < 10) (hb : b < 10) (hF : 100000 ≤ F) : ∃ σ', kp (fun x => x = 104 ∨ x = 103) σ σ' ∧ g_X6_likesBy F σ 85 (nI a) (nI b) = some (likeS L (fx2 S xs ys a b), σ') := by
  have l := g.1
  obtain ⟨s1, h1, h2, h3⟩ := e_X6_feelsTwo (F := F) l hM hw hE ha hb hF
  have g1 := kp104_cod g h1
  obtain ⟨s2, h4, h5⟩ := e_X6_holdsAny (c := 115) hL hF g1
  have g2 := h4.cod g1
  obtain ⟨s3, h6, h7⟩ := e_X6_byLaw (c := 101) (most := 9999) (by decide) (by decide) hL hF g2
  have k1 : kp (fun x => x = 104 ∨ x = 103) σ s1 := h1.mono (fun x q => Or.inl q)
  have k2 : kp (fun x => x = 104 ∨ x = 103) σ s2 := k1.trans (h4.mono (fun x q => Or.inr q))
  have k3 : kp (fun x => x = 104 ∨ x = 103) σ s3 := k2.trans (h6.mono (fun x q => Or.inr q))
  unfold g_X6_likesBy
  rw [if_pos (T85 l), h2, Option.bind_some, h5, bq_some, h7, bq_some, h4.fm, h3]
  unfold likeS
  by_cases c : saysS L 115 (fx2 S xs ys a b) = 0
  · rw [if_pos c, if_pos c]
    exact ⟨s3, k3, rfl⟩
  · rw [if_neg c, if_neg c]
    exact ⟨s2, k2, rfl⟩
/-- how much rain -/
def rainS (L : LW) (y : Nat) : Int32 := heldS (tellsS L 114 (fx0 0 y)) 10
theorem e_X6_rainBy {τ0 : MM} {L : LW} (hL : ML τ0 L) (g : kcod τ0 σ) {y : Nat} (hy : mI σ 86 156 = nI y) (hF : 100000 ≤ F) : ∃ σ', kp (fun x => x = 104 ∨ x = 103) σ σ' ∧ g_X6_rainBy F σ 85 = some (rainS L y, σ') := by
  have l := g.1
  obtain ⟨s1, h1, h2, h0, h6, h7⟩ := e_X6_feels (F := F) (h := 0) l hF
  have g1 := kp104_cod g h1
  obtain ⟨s3, e6, e7⟩ := e_X6_byLaw (c := 114) (most := 10) (by decide) (by decide) hL hF g1
  have hf : fM s1 = fx0 0 y := by
    refine f8_eq ?_ ?_ ?_ ?_ ?_ ?_ ?_ ?_ (fun j hj => ?_)
    · exact h0 0 (by decide)
    · exact h0 1 (by decide)
    · exact h0 2 (by decide)
    · exact h0 3 (by decide)
    · exact h0 4 (by decide)
    · exact h0 5 (by decide)
    · exact h6
    · exact h7.trans hy
    · match j, hj with
      | n + 8, _ => rfl
  unfold g_X6_rainBy
  rw [if_pos (T85 l), h2, Option.bind_some, e7, bq_some, hf]
  exact ⟨s3, (h1.mono (fun x q => Or.inl q)).trans (e6.mono (fun x q => Or.inr q)), rfl⟩
/-- the component's: a time alone -/
theorem e_X2_at0 {x y : Nat} (l : lay σ) : ∃ σ', g_X2_at F σ 4 (nI x) (nI y) = some (4, σ') ∧ kp (fun x => x = 4) σ σ' ∧ fC σ' = fx0 x y := by
  refine ⟨_, e_X2_at l, ⟨rfl, fun x hx => ?_⟩, ?_⟩
  · have hx : x ≠ 4 := hx
    simp only [mI_wn hx]
  · refine f8_eq ?_ ?_ ?_ ?_ ?_ ?_ ?_ ?_ (fun j hj => ?_)
    · simp only [mI_wI]; rfl
    · simp only [mI_wI]; rfl
    · simp only [mI_wI]; rfl
    · simp only [mI_wI]; rfl
    · simp only [mI_wI]; rfl
    · simp only [mI_wI]; rfl
    · simp only [mI_wI]; rfl
    · simp only [mI_wI]; rfl
    · match j, hj with
      | n + 8, _ => rfl
end FACTS
