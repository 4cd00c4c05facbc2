/-! TRIED, WHEN, WEDDINGS -/
section TRIED
variable {B F : Nat} {G : GG}
def r86 (x y : Nat) : Prop := x = 86 ∨ rSM x y
theorem r86_id (x y : Nat) (h : r86 x y) : x = 86 ∨ rSM x y := h
theorem call_try {gx gm : MM → Option (Int32 × MM)} (hG : GW B G) (r : Int32) (h1 : ∀ σ, CI B σ G → ∃ σ', gx σ = some (r, σ') ∧ kj rSC σ σ') (h2 : ∀ τ, MI τ G → ∃ τ', gm τ = some (r, τ') ∧ kj r86 τ τ' ∧ MD τ' 86 G.S) : Call B G gx gm := by
  refine ⟨r, G, hG.mono (by omega), fun σ h => ?_, fun τ h => ?_⟩
  · obtain ⟨σ', e, k⟩ := h1 σ h
    exact ⟨σ', e, k.mono rSC_rX, (h.s k (fun _ _ q => q)).mono (by omega)⟩
  · obtain ⟨σ', e, k, M⟩ := h2 τ h
    exact ⟨σ', e, upS_rY r86_id k, h.upS k r86_id M⟩
theorem hold_q {h : Nat} (hh : h ≤ 10) : (if pv h = -1 then (-2 : Int32) else pv h) = qv h := by
  by_cases c : h < 10
  · rw [if_neg (pv_ne c), pv_lt c, qv_lt c]
  · have e : h = 10 := by omega
    subst e
    rfl
theorem hold_if {h : Nat} {σ : MM} (hh : h ≤ 10) : (if pv h = -1 then (some ((-2 : Int32), σ)) else ((some (pv h)).bind fun v => some (v, σ))) = some (qv h, σ) := by
  rw [Option.bind_some]
  rw [← hold_q hh]
  by_cases c : pv h = -1
  · rw [if_pos c, if_pos c]
  · rw [if_neg c, if_neg c]
theorem goesM_86 {R : Nat → Nat → Prop} (hR : ∀ x y, R x y → rHM x y) (x y : Nat) (h : R x y) : r86 x y := by
  have := hR x y h
  unfold rHM rN at this
  unfold r86 rSM
  omega
theorem Call.congr {gx gm gx' gm' : MM → Option (Int32 × MM)} (h : Call B G gx' gm') (e1 : ∀ σ, CI B σ G → gx σ = gx' σ) (e2 : ∀ τ, MI τ G → gm τ = gm' τ) : Call B G gx gm := by
  obtain ⟨r, G', h1, h2, h3⟩ := h
  refine ⟨r, G', h1, fun σ q => ?_, fun τ q => ?_⟩
  · rw [e1 σ q]; exact h2 σ q
  · rw [e2 τ q]; exact h3 τ q
/-- what is asked of hours tried -/
def askS (S : DS) (Z : HS) (w : Int32) : Int32 :=
  if w = 0 then Z.2.1 else if w = 1 then nI (allS Z.1.1) else if w = 2 then qv (Z.1.2.2.2 0) else if w = 3 then Z.2.2.1 else if w = 4 then Z.2.2.2 else if w = 5 then nI (Z.1.2.2.2 4) else Z.1.2.1 (w - 10).toNatClampNeg - S.2.1 (w - 10).toNatClampNeg
theorem call_tried (hG : GW B G) (hB : B < 900000) (hF : 100000 ≤ F) (a w : Int32) : Call B G (fun σ => g_X0_tried F σ 1 a w) (fun τ => g_X6_tried F τ 85 a w) := by
  unfold g_X0_tried g_X6_tried
  rcases within_is (x := a) (l := 1) (m := 240) (by decide) (by decide) with ⟨N, hN1, hN, rfl, y1, y2⟩ | ⟨n1, n2⟩
  · have hW := goesS_W G.L G.xs G.ys (x := (G.S, 0, 0, 0)) hG.2.2.1 hG.2.2.2.1 hG.2.1 N
    -- the end, where it is allowed
    have go : (w = 0 ∨ w = 1 ∨ w = 2 ∨ w = 3 ∨ w = 4 ∨ w = 5 ∨ ∃ p, p < 10 ∧ w = nI (10 + p)) → Call B G (fun σ5 => (gP σ5 1 0 22 5).bind fun p7 => (gP σ5 1 0 22 4).bind fun p8 => bq (g_X3_takes F σ5 p7 p8) fun p10 σ9 => bq (g_X3_goes F σ9 p10 (nI N)) fun p12 σ11 => if w = 0 then ((gP σ11 1 0 22 5).bind fun p13 => (gI σ11 p13 2 16 11).bind fun v14 => some (v14, σ11)) else if w = 1 then ((gP σ11 1 0 22 5).bind fun p15 => (gP σ11 p15 2 16 0).bind fun p16 => bq (g_X4_all F σ11 p16) fun v18 σ17 => some (v18, σ17)) else if w = 2 then ((gP σ11 1 0 22 5).bind fun p19 => (gI σ11 p19 2 16 3).bind fun v20 => if v20 = (-1) then (some ((-2), σ11)) else ((gP σ11 1 0 22 5).bind fun p21 => (gI σ11 p21 2 16 3).bind fun v22 => some (v22, σ11))) else if w = 3 then ((gP σ11 1 0 22 5).bind fun p23 => (gI σ11 p23 2 16 12).bind fun v24 => some (v24, σ11)) else if w = 4 then ((gP σ11 1 0 22 5).bind fun p25 => (gI σ11 p25 2 16 13).bind fun v26 => some (v26, σ11)) else if w = 5 then ((gP σ11 1 0 22 5).bind fun p27 => (gI σ11 p27 2 16 7).bind fun v28 => some (v28, σ11)) else ((gP σ11 1 0 22 5).bind fun p29 => (gP σ11 p29 2 16 1).bind fun p30 => (aI σ11 p30 20 ((w - 10))).bind fun v31 => (gP σ11 1 0 22 4).bind fun p32 => (gP σ11 p32 2 16 1).bind fun p33 => (aI σ11 p33 20 ((w - 10))).bind fun v34 => some ((v31 - v34), σ11))) (fun σ5 => (gP σ5 85 5 62 0).bind fun p7 => (gP σ5 85 5 62 1).bind fun p8 => (g_X6_copies F σ5 p7 p8).bind fun σ9 => (g_X6_hoursGo F σ9 85 (nI N)).bind fun σ10 => jn (fun (y3_12 : Int32) (σ11 : MM) => (gP σ11 85 5 62 1).bind fun p14 => (gP σ11 85 5 62 0).bind fun p15 => (g_X6_copies F σ11 p14 p15).bind fun σ16 => some (y3_12, σ16)) (fun k13 => if w = 0 then ((gI σ10 85 5 62 32).bind fun v17 => k13 v17 σ10) else if w = 1 then (bq (g_X6_owedInAll F σ10 85) fun v19 σ18 => k13 v19 σ18) else if w = 2 then ((gP σ10 85 5 62 0).bind fun p20 => (aI σ10 p20 20 151).bind fun v21 => k13 v21 σ10) else if w = 3 then ((gI σ10 85 5 62 33).bind fun v22 => k13 v22 σ10) else if w = 4 then ((gI σ10 85 5 62 34).bind fun v23 => k13 v23 σ10) else if w = 5 then ((gP σ10 85 5 62 0).bind fun p24 => (aI σ10 p24 20 155).bind fun v25 => k13 v25 σ10) else ((gP σ10 85 5 62 0).bind fun p26 => (aI σ10 p26 20 (((100 + w) - 10))).bind fun v27 => (gP σ10 85 5 62 1).bind fun p28 => (aI σ10 p28 20 (((100 + w) - 10))).bind fun v29 => k13 ((v27 - v29)) σ10))) := by
      intro hw
      refine call_try hG (askS G.S (goesS G.L G.xs G.ys (G.S, 0, 0, 0) N) w) (fun σ h => ?_) (fun τ h => ?_)
      · obtain ⟨s1, e1, k1, C1⟩ := e_X3_takes (F := F) h.l d20 d5 (by decide) h.2.1 hG.2.2.1.2.2.2.2.2.2.2.2.1 hF
        have K1 := h.1.j k1 (fun x y q => rSC_rC x y (rT_20 x y q))
        obtain ⟨s, e, k, c⟩ := e_X3_goes (F := F) K1 d20 C1 hG.2.2.1 hG.2.2.2.1 hN (by omega) (by omega) hF
        have ks := (k1.mono rT_20).trans (k.mono rH_20)
        have hs := h.s ks (fun _ _ q => q)
        have l := hs.l
        refine ⟨s, ?_, ks⟩
        (try dsimp only)
        rw [gP_T (T1 h.l), Option.bind_some, P1_5 h.l, gP_T (T1 h.l), Option.bind_some, P1_4 h.l, e1, bq_some, e, bq_some]
        have h0 := hW.1.2.2.1
        have h3 : mI s 20 3 = pv ((goesS G.L G.xs G.ys (G.S, 0, 0, 0) N).1.2.2.2 0) := c.1.2.2.2.1
        have h7 : mI s 20 7 = nI ((goesS G.L G.xs G.ys (G.S, 0, 0, 0) N).1.2.2.2 4) := c.1.2.2.2.2.2.2.1
        unfold askS
        rcases hw with rfl | rfl | rfl | rfl | rfl | rfl | ⟨p, hp, rfl⟩
        · rw [if_pos rfl, if_pos rfl, gP_T (T1 l), Option.bind_some, P1_5 l, gI_T (T20 l), Option.bind_some, c.2.1]
        · rw [if_neg (by decide), if_pos rfl, if_neg (by decide), if_pos rfl, gP_T (T1 l), Option.bind_some, P1_5 l, dbP l d20, Option.bind_some, e_X4_all (d20.B l) c.1.1 (by omega), bq_some]
        · rw [if_neg (by decide), if_neg (by decide), if_pos rfl, if_neg (by decide), if_neg (by decide), if_pos rfl, gP_T (T1 l), Option.bind_some, P1_5 l, gI_T (T20 l), Option.bind_some, h3, Option.bind_some, gI_T (T20 l), h3]
          exact hold_if h0
        · rw [if_neg (by decide), if_neg (by decide), if_neg (by decide), if_pos rfl, if_neg (by decide), if_neg (by decide), if_neg (by decide), if_pos rfl, gP_T (T1 l), Option.bind_some, P1_5 l, gI_T (T20 l), Option.bind_some, c.2.2.1]
        · rw [if_neg (by decide), if_neg (by decide), if_neg (by decide), if_neg (by decide), if_pos rfl, if_neg (by decide), if_neg (by decide), if_neg (by decide), if_neg (by decide), if_pos rfl, gP_T (T1 l), Option.bind_some, P1_5 l, gI_T (T20 l), Option.bind_some, c.2.2.2]
        · rw [if_neg (by decide), if_neg (by decide), if_neg (by decide), if_neg (by decide), if_neg (by decide), if_pos rfl, if_neg (by decide), if_neg (by decide), if_neg (by decide), if_neg (by decide), if_neg (by decide), if_pos rfl, gP_T (T1 l), Option.bind_some, P1_5 l, gI_T (T20 l), Option.bind_some, h7]
        · have ne : ∀ k, k < 6 → ¬ nI (10 + p) = nI k := fun k hk q => by have := (nI_eq (by omega) (by omega)).mp q; omega
          have ne0 : ¬ nI (10 + p) = 0 := ne 0 (by decide)
          have ne1 : ¬ nI (10 + p) = 1 := ne 1 (by decide)
          have ne2 : ¬ nI (10 + p) = 2 := ne 2 (by decide)
          have ne3 : ¬ nI (10 + p) = 3 := ne 3 (by decide)
          have ne4 : ¬ nI (10 + p) = 4 := ne 4 (by decide)
          have ne5 : ¬ nI (10 + p) = 5 := ne 5 (by decide)
          have es : nI (10 + p) - 10 = nI p := by rw [show (10 : Int32) = nI 10 from rfl, nI_sub (by omega)]; congr 1; omega
          have g1 : aI s 33 20 (nI p) = some ((goesS G.L G.xs G.ys (G.S, 0, 0, 0) N).1.2.1 p) := by rw [aI_T (by rw [T33 l]) (by rw [T33 l]; exact hp) (by rw [T33 l]; decide), c.1.2.1 p hp]
          have g2 : aI s 18 20 (nI p) = some (G.S.2.1 p) := by rw [aI_T (by rw [T18 l]) (by rw [T18 l]; exact hp) (by rw [T18 l]; decide), hs.2.1.2.1 p hp]
          rw [if_neg ne0, if_neg ne1, if_neg ne2, if_neg ne3, if_neg ne4, if_neg ne5, if_neg ne0, if_neg ne1, if_neg ne2, if_neg ne3, if_neg ne4, if_neg ne5, es, nI_clamp (by omega), gP_T (T1 l), Option.bind_some, P1_5 l, gP_T (T20 l), Option.bind_some, P20_1 l, g1, Option.bind_some, gP_T (T1 l), Option.bind_some, P1_4 l, gP_T (T5 l), Option.bind_some, P5_1 l, g2, Option.bind_some]
      · obtain ⟨s1, e1, k1, f1⟩ := e_X6_copies (F := F) h.l (A := 86) (A' := 87) (Or.inl rfl) (Or.inr (Or.inl rfl)) (by decide) hF
        have k1j := k1.j (R := rSM) (fun x y q => Or.inl q)
        have h1 := h.s k1j (fun _ _ q => q)
        obtain ⟨s, e, k, c⟩ := e_X6_hoursGo (F := F) h1.1 h1.2.1 hG.2.2.1 hG.2.2.2.1 hN (by omega) hF
        have l := k.ly h1.l
        have e87 : mI s 87 = mI s1 87 := k.row (fun y q => by unfold rHM rN at q; omega)
        obtain ⟨s2, e2, k2, f2⟩ := e_X6_copies (F := F) l (A := 87) (A' := 86) (Or.inr (Or.inl rfl)) (Or.inl rfl) (by decide) hF
        have hb : ∀ k, k < 159 → mI s2 86 k = mI τ 86 k := fun k hk => by rw [f2 k hk, e87, f1 k hk]
        refine ⟨s2, ?_, (k1.j (fun x y q => Or.inr (Or.inl q))).trans ((k.mono (goesM_86 (fun x y q => q))).trans (k2.j (fun x y q => Or.inl q))), h.2.1.cp hG.2.2.1.2.1 hb⟩
        (try dsimp only)
        have l1 := h1.l
        have h151 : mI s 86 151 = qv ((goesS G.L G.xs G.ys (G.S, 0, 0, 0) N).1.2.2.2 0) := c.1.2.2.2.1
        have h155 : mI s 86 155 = nI ((goesS G.L G.xs G.ys (G.S, 0, 0, 0) N).1.2.2.2 4) := c.1.2.2.2.2.2.2.2.1
        have fin : ∀ v : Int32, ((gP s 85 5 62 1).bind fun p14 => (gP s 85 5 62 0).bind fun p15 => (g_X6_copies F s p14 p15).bind fun σ16 => some (v, σ16)) = some (v, s2) := fun v => by
          rw [gP_T (T85 l), Option.bind_some, P85_1 l, gN l, Option.bind_some, e2, Option.bind_some]
        rw [gP_T (T85 h.l), Option.bind_some, P85_0 h.l, gP_T (T85 h.l), Option.bind_some, P85_1 h.l, e1, Option.bind_some, e, Option.bind_some, jn_eq]
        (try dsimp only)
        simp only [fin]
        unfold askS
        rcases hw with rfl | rfl | rfl | rfl | rfl | rfl | ⟨p, hp, rfl⟩
        · rw [if_pos rfl, if_pos rfl, gI_T (T85 l), Option.bind_some, c.2.1]
        · rw [if_neg (by decide), if_pos rfl, if_neg (by decide), if_pos rfl, e_X6_owedInAll l c.1.1 (by omega), bq_some, fin]
        · rw [if_neg (by decide), if_neg (by decide), if_pos rfl, if_neg (by decide), if_neg (by decide), if_pos rfl, gN l, Option.bind_some, a151 l, Option.bind_some, h151]
        · rw [if_neg (by decide), if_neg (by decide), if_neg (by decide), if_pos rfl, if_neg (by decide), if_neg (by decide), if_neg (by decide), if_pos rfl, gI_T (T85 l), Option.bind_some, c.2.2.1]
        · rw [if_neg (by decide), if_neg (by decide), if_neg (by decide), if_neg (by decide), if_pos rfl, if_neg (by decide), if_neg (by decide), if_neg (by decide), if_neg (by decide), if_pos rfl, gI_T (T85 l), Option.bind_some, c.2.2.2]
        · rw [if_neg (by decide), if_neg (by decide), if_neg (by decide), if_neg (by decide), if_neg (by decide), if_pos rfl, if_neg (by decide), if_neg (by decide), if_neg (by decide), if_neg (by decide), if_neg (by decide), if_pos rfl, gN l, Option.bind_some, a155 l, Option.bind_some, h155]
        · have ne : ∀ k, k < 6 → ¬ nI (10 + p) = nI k := fun k hk q => by have := (nI_eq (by omega) (by omega)).mp q; omega
          have ne0 : ¬ nI (10 + p) = 0 := ne 0 (by decide)
          have ne1 : ¬ nI (10 + p) = 1 := ne 1 (by decide)
          have ne2 : ¬ nI (10 + p) = 2 := ne 2 (by decide)
          have ne3 : ¬ nI (10 + p) = 3 := ne 3 (by decide)
          have ne4 : ¬ nI (10 + p) = 4 := ne 4 (by decide)
          have ne5 : ¬ nI (10 + p) = 5 := ne 5 (by decide)
          have es : nI (10 + p) - 10 = nI p := by rw [show (10 : Int32) = nI 10 from rfl, nI_sub (by omega)]; congr 1; omega
          have es2 : (100 : Int32) + nI (10 + p) - 10 = nI (100 + p) := by rw [show (10 : Int32) = nI 10 from rfl, show (100 : Int32) = nI 100 from rfl, nI_add, nI_sub (by omega)]; congr 1; omega
          have g1 : aI s 86 20 (nI (100 + p)) = some ((goesS G.L G.xs G.ys (G.S, 0, 0, 0) N).1.2.1 p) := by rw [aN l (by omega), c.1.2.1 p hp]
          have g2 : aI s 87 20 (nI (100 + p)) = some (G.S.2.1 p) := by rw [aI_T (by rw [T87 l]) (by rw [T87 l]; show 100 + p < 159; omega) (by rw [T87 l]; decide), e87, f1 _ (by omega), h.2.1.2.1 p hp]
          rw [if_neg ne0, if_neg ne1, if_neg ne2, if_neg ne3, if_neg ne4, if_neg ne5, if_neg ne0, if_neg ne1, if_neg ne2, if_neg ne3, if_neg ne4, if_neg ne5, es, nI_clamp (by omega), es2, gN l, Option.bind_some, g1, Option.bind_some, gP_T (T85 l), Option.bind_some, P85_1 l, g2, Option.bind_some]
    have e1 : (1 : Int32) = nI 1 := rfl
    have e240 : (240 : Int32) = nI 240 := rfl
    rcases in_is (x := w) (n := 6) (by decide) (by decide) with ⟨k, hk, hwk⟩ | ⟨m1, m2⟩
    · refine (go (by
        rcases (show k = 0 ∨ k = 1 ∨ k = 2 ∨ k = 3 ∨ k = 4 ∨ k = 5 by omega) with q | q | q | q | q | q <;> rw [hwk, q]
        · exact Or.inl rfl
        · exact Or.inr (Or.inl rfl)
        · exact Or.inr (Or.inr (Or.inl rfl))
        · exact Or.inr (Or.inr (Or.inr (Or.inl rfl)))
        · exact Or.inr (Or.inr (Or.inr (Or.inr (Or.inl rfl))))
        · exact Or.inr (Or.inr (Or.inr (Or.inr (Or.inr (Or.inl rfl))))))).congr (fun σ h => ?_) (fun τ h => ?_)
      · have i1 : g_X0_in F σ w 6 = some (1, σ) := by rw [hwk]; exact in_yes (n := 6) hk (by decide)
        (try dsimp only)
        rw [if_pos (T1 h.l), e1, e240, y1, bq_some, if_neg (by decide), ← e1, i1, bq_some, jn_eq, if_neg (by decide)]
      · have i1 : g_X6_in F τ w 0 5 = some (1, τ) := by rw [hwk]; exact inM_yes (m := 5) (by omega) (by decide)
        (try dsimp only)
        rw [if_pos (T85 h.l), e1, e240, y2, bq_some, if_neg (by decide), ← e1, i1, bq_some, jn_eq, if_neg (by decide)]
    · rcases told_is (x := w - 10) hG with ⟨p, hp, tp, hpe⟩ | ⟨t1, t2⟩
      · have hwp : w = nI (10 + p) := by
          have : w = w - 10 + 10 := (Int32.sub_add_cancel w 10).symm
          rw [this, hpe, show (10 : Int32) = nI 10 from rfl, nI_add, Nat.add_comm]
        refine (go (Or.inr (Or.inr (Or.inr (Or.inr (Or.inr (Or.inr ⟨p, hp, hwp⟩))))))).congr (fun σ h => ?_) (fun τ h => ?_)
        · (try dsimp only)
          rw [if_pos (T1 h.l), e1, e240, y1, bq_some, if_neg (by decide), ← e1, show (6 : Int32) = nI 6 from rfl, m1, bq_some, jn_eq, if_pos rfl, hpe, told_yes h.l h.1.2.2 hp tp, bq_some, if_neg (by decide)]
        · have i2 : g_X6_in F τ w 10 19 = some (1, τ) := by
            rw [hwp]
            unfold g_X6_in
            rw [if_neg (show ¬ nI (10 + p) < 10 from nI_nlt (b := 10) (by omega) (by omega)), if_neg (show ¬ 19 < nI (10 + p) from nI_nlt (a := 19) (by omega) (by decide))]
          (try dsimp only)
          rw [if_pos (T85 h.l), e1, e240, y2, bq_some, if_neg (by decide), ← e1, show (5 : Int32) = nI (6 - 1) from rfl, m2, bq_some, jn_eq, if_pos rfl, i2, bq_some, if_neg (by decide), hpe, person_yes h.l h.1.2.2 hp tp, bq_some, if_neg (by decide)]
      · refine call_look hG (-1) (fun σ h => ?_) (fun τ h => ?_)
        · (try dsimp only)
          rw [if_pos (T1 h.l), e1, e240, y1, bq_some, if_neg (by decide), ← e1, show (6 : Int32) = nI 6 from rfl, m1, bq_some, jn_eq, if_pos rfl, t1 F σ h, bq_some, if_pos rfl]
        · (try dsimp only)
          rw [if_pos (T85 h.l), e1, e240, y2, bq_some, if_neg (by decide), ← e1, show (5 : Int32) = nI (6 - 1) from rfl, m2, bq_some, jn_eq, if_pos rfl]
          unfold g_X6_in
          by_cases c1 : w < 10
          · rw [if_pos c1, bq_some, if_pos rfl]
          · rw [if_neg c1]
            by_cases c2 : 19 < w
            · rw [if_pos c2, bq_some, if_pos rfl]
            · rw [if_neg c2, bq_some, if_neg (by decide), t2 F τ h, bq_some, if_pos rfl]
  · refine call_look hG (-1) (fun σ h => ?_) (fun τ h => ?_)
    · (try dsimp only)
      rw [if_pos (T1 h.l), show (1 : Int32) = nI 1 from rfl, show (240 : Int32) = nI 240 from rfl, n1, bq_some, if_pos rfl]
    · (try dsimp only)
      rw [if_pos (T85 h.l), show (1 : Int32) = nI 1 from rfl, show (240 : Int32) = nI 240 from rfl, n2, bq_some, if_pos rfl]
end TRIED
