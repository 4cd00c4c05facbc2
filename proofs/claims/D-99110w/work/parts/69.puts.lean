/-! CALLS THAT PUT SOMETHING -/
section PUTS
variable {B F : Nat} {G : GG}
theorem DW.set {t Y a b v : Nat} {S : DS} (h : DW t Y S) (hv : v ≤ 99) (hab : a ≠ b) (ha : t.testBit a = true) (hb : t.testBit b = true) : DW t Y (setd S a b v) := by
  obtain ⟨d1, d2⟩ := h
  refine ⟨fun x hx y hy => ?_, d2⟩
  show (if x = a ∧ y = b then v else S.1 x y) ≤ 99 ∧ ((if x = a ∧ y = b then v else S.1 x y) ≠ 0 → _)
  by_cases c : x = a ∧ y = b
  · rw [if_pos c]
    obtain ⟨rfl, rfl⟩ := c
    exact ⟨hv, fun _ => ⟨hab, ha, hb⟩⟩
  · rw [if_neg c]; exact d1 x hx y hy
theorem call_debt (hG : GW B G) (hF : 100000 ≤ F) (a b c : Int32) : Call B G (fun σ => g_X0_debt F σ 1 a b c) (fun τ => g_X6_debt F τ 85 a b c) := by
  unfold g_X0_debt g_X6_debt g_X6_areTwo
  rcases told_is (x := a) hG with ⟨p, hp, tp, rfl⟩ | ⟨n1, n2⟩
  · rcases told_is (x := b) hG with ⟨q, hq, tq, rfl⟩ | ⟨n1, n2⟩
    · by_cases hpq : p = q
      · subst hpq
        refine call_look hG 0 (fun σ h => ?_) (fun τ h => ?_)
        · (try dsimp only)
          rw [if_pos (T1 h.l), told_yes h.l h.1.2.2 hp tp, bq_some, if_neg (by decide), told_yes h.l h.1.2.2 hp tp, bq_some, if_neg (by decide), if_pos rfl]
        · (try dsimp only)
          rw [if_pos (T85 h.l), if_pos (T85 h.l), person_yes h.l h.1.2.2 hp tp, bq_some, if_neg (by decide), person_yes h.l h.1.2.2 hp tp, bq_some, if_neg (by decide), if_pos rfl, bq_some, if_pos rfl]
      · have hpq' : ¬ nI p = nI q := fun e => hpq ((nI_eq (by omega) (by omega)).mp e)
        rcases within_is (x := c) (l := 0) (m := 99) (by decide) (by decide) with ⟨v, -, hv, rfl, y1, y2⟩ | ⟨n1, n2⟩
        · refine ⟨1, G.wS (setd G.S p q v), hG.upS (by omega) ((hG.2.2.1.set hv hpq tp tq).mono (by omega)) hG.2.2.2.1, fun σ h => ?_, fun τ h => ?_⟩
          · have k : kj (fun x y => x = 8 + p) σ (wI σ (8 + p) q (nI v)) := kj.w rfl
            have r : ∀ x y, (fun x (y : Nat) => x = 8 + p) x y → (x = 5 ∨ (8 ≤ x ∧ x ≤ 19)) ∨ rSC x y := fun x y e => by have e : x = 8 + p := e; omega
            refine ⟨wI σ (8 + p) q (nI v), ?_, upS_rX r k, h.upS k r ((h.2.1.sd hp hq).mono (by omega)) (by omega)⟩
            (try dsimp only)
            rw [if_pos (T1 h.l), told_yes h.l h.1.2.2 hp tp, bq_some, if_neg (by decide), told_yes h.l h.1.2.2 hq tq, bq_some, if_neg (by decide), if_neg hpq', show (0 : Int32) = nI 0 from rfl, show (99 : Int32) = nI 99 from rfl, y1, bq_some, if_neg (by decide), gP_T (T1 h.l), Option.bind_some, P1_4 h.l, dbP h.l d5, Option.bind_some, dbO h.l d5, Option.bind_some, rowP h.l d5 hp, Option.bind_some, rowS h.l d5 hp hq, Option.bind_some]
          · have k : kj (fun x y => x = 86) τ (wI τ 86 (10 * p + q) (nI v)) := kj.w rfl
            have r : ∀ x y, (fun x (y : Nat) => x = 86) x y → x = 86 ∨ rSM x y := fun x y e => Or.inl e
            have ei : (0 : Int32) + 10 * nI p + nI q = nI (10 * p + q) := by
              rw [show (10 : Int32) = nI 10 from rfl, nI_mul, show (0 : Int32) = nI 0 from rfl, nI_add, nI_add, Nat.zero_add]
            refine ⟨wI τ 86 (10 * p + q) (nI v), ?_, upS_rY r k, h.upS k r (h.2.1.sd hp hq)⟩
            (try dsimp only)
            rw [if_pos (T85 h.l), if_pos (T85 h.l), person_yes h.l h.1.2.2 hp tp, bq_some, if_neg (by decide), person_yes h.l h.1.2.2 hq tq, bq_some, if_neg (by decide), if_neg hpq', bq_some, if_neg (by decide), ei, show (0 : Int32) = nI 0 from rfl, show (99 : Int32) = nI 99 from rfl, y2, bq_some, if_neg (by decide), gN h.l, Option.bind_some, sN h.l (by omega), Option.bind_some]
        · refine call_look hG 0 (fun σ h => ?_) (fun τ h => ?_)
          · (try dsimp only)
            rw [if_pos (T1 h.l), told_yes h.l h.1.2.2 hp tp, bq_some, if_neg (by decide), told_yes h.l h.1.2.2 hq tq, bq_some, if_neg (by decide), if_neg hpq', show g_X0_within F σ c 0 99 = _ from n1 F σ, bq_some, if_pos rfl]
          · (try dsimp only)
            rw [if_pos (T85 h.l), if_pos (T85 h.l), person_yes h.l h.1.2.2 hp tp, bq_some, if_neg (by decide), person_yes h.l h.1.2.2 hq tq, bq_some, if_neg (by decide), if_neg hpq', bq_some, if_neg (by decide), show g_X6_in F τ c 0 99 = _ from n2 F τ, bq_some, if_pos rfl]
    · refine call_look hG 0 (fun σ h => ?_) (fun τ h => ?_)
      · (try dsimp only)
        rw [if_pos (T1 h.l), told_yes h.l h.1.2.2 hp tp, bq_some, if_neg (by decide), n1 F σ h, bq_some, if_pos rfl]
      · (try dsimp only)
        rw [if_pos (T85 h.l), if_pos (T85 h.l), person_yes h.l h.1.2.2 hp tp, bq_some, if_neg (by decide), n2 F τ h, bq_some, if_pos rfl, bq_some, if_pos rfl]
  · refine call_look hG 0 (fun σ h => ?_) (fun τ h => ?_)
    · (try dsimp only)
      rw [if_pos (T1 h.l), n1 F σ h, bq_some, if_pos rfl]
    · (try dsimp only)
      rw [if_pos (T85 h.l), if_pos (T85 h.l), n2 F τ h, bq_some, if_pos rfl, bq_some, if_pos rfl]
/-- one has it -/
def hasS (S : DS) (p : Nat) : DS := (S.1, S.2.1, S.2.2.1, upQ (upQ S.2.2.2 0 p) 1 10)
theorem call_coin (hG : GW B G) (hF : 100000 ≤ F) (a : Int32) : Call B G (fun σ => g_X0_coin F σ 1 a) (fun τ => g_X6_coin F τ 85 a) := by
  unfold g_X0_coin g_X6_coin
  rcases told_is (x := a) hG with ⟨p, hp, tp, rfl⟩ | ⟨n1, n2⟩
  · have hw : DW G.t (B + 300) (hasS G.S p) := by
      obtain ⟨d1, d2, d3, d4, d5, d6, d7, d8, d9, d10, d11⟩ := hG.2.2.1
      refine ⟨d1, d2, ?_, ?_, fun q => absurd q (show ¬ 10 < 10 by decide), fun q => tp, d7, Nat.le_trans d8 (by omega), d9, d10, d11⟩
      · show p ≤ 10; omega
      · show 10 ≤ 10; decide
    refine ⟨1, G.wS (hasS G.S p), hG.upS (by omega) hw (fun q => absurd q (show ¬ 10 < 10 by decide)), fun σ h => ?_, fun τ h => ?_⟩
    · have k : kj (fun x y => x = 5) σ (wI (wI σ 5 3 (nI p)) 5 5 (-1)) := (kj.w (R := fun x y => x = 5) rfl).trans (kj.w rfl)
      have r : ∀ x y, (fun x (y : Nat) => x = 5) x y → (x = 5 ∨ (8 ≤ x ∧ x ≤ 19)) ∨ rSC x y := fun x y e => Or.inl (Or.inl e)
      have l1 : lay (wI σ 5 3 (nI p)) := h.l
      obtain ⟨c1, c2, ⟨w, w1, w2, w3, w4⟩, c4, c5, c6, c7, c8, c9, c10⟩ := h.2.1
      refine ⟨_, ?_, upS_rX r k, h.upS k r ⟨fun x hx y hy => ?_, fun u hu => ?_, ⟨w, by omega, ?_, w3, fun k hk => ?_⟩, ?_, ?_, fun q => absurd q (show ¬ 10 < 10 by decide), ?_, ?_, ?_, ?_⟩ (by omega)⟩
      · (try dsimp only)
        rw [if_pos (T1 h.l), told_yes h.l h.1.2.2 hp tp, bq_some, if_neg (by decide), gP_T (T1 h.l), Option.bind_some, P1_4 h.l, pI_T (T5 h.l), Option.bind_some, gP_T (T1 l1), Option.bind_some, P1_4 l1, pI_T (T5 l1), Option.bind_some]
      · rw [mI_wn (by omega), mI_wn (by omega)]; exact c1 x hx y hy
      · rw [mI_wn (by omega), mI_wn (by omega)]; exact c2 u hu
      · rw [mI_wy (by decide), mI_wy (by decide)]; exact w2
      · rw [mI_wn (by omega), mI_wn (by omega)]; exact w4 k hk
      · rw [mI_wy (by decide), mI_ws]
        show nI p = pv p
        rw [pv_lt hp]
      · rw [mI_ws]; rfl
      · rw [mI_wy (by decide), mI_wy (by decide)]; exact c7
      · rw [mI_wy (by decide), mI_wy (by decide)]; exact c8
      · rw [mI_wy (by decide), mI_wy (by decide)]; exact c9
      · rw [mI_wy (by decide), mI_wy (by decide)]; exact c10
    · have k : kj (fun x y => x = 86) τ (wI (wI (wI τ 86 151 (nI p)) 86 153 (-2)) 86 154 0) := (kj.w (R := fun x y => x = 86) rfl).trans ((kj.w (R := fun x y => x = 86) rfl).trans (kj.w rfl))
      have r : ∀ x y, (fun x (y : Nat) => x = 86) x y → x = 86 ∨ rSM x y := fun x y e => Or.inl e
      have hlen := hG.2.2.1.2.1
      obtain ⟨m1, m2, ⟨m3, m4⟩, m5, m6, m7, m8, m9, m10, m11, m12⟩ := h.2.1
      have fj : ∀ j, j ≠ 151 → j ≠ 153 → j ≠ 154 → mI (wI (wI (wI τ 86 151 (nI p)) 86 153 (-2)) 86 154 0) 86 j = mI τ 86 j := fun j a b c => by rw [mI_wy c, mI_wy b, mI_wy a]
      refine ⟨_, ?_, upS_rY r k, h.upS k r ⟨fun x hx y hy => ?_, fun u hu => ?_, ⟨?_, fun k hk => ?_⟩, ?_, ?_, fun q => absurd q (show ¬ 10 < 10 by decide), ?_, ?_, ?_, ?_, ?_⟩⟩
      · (try dsimp only)
        rw [if_pos (T85 h.l), person_yes h.l h.1.2.2 hp tp, bq_some, if_neg (by decide), e_X6_rests h.l, Option.bind_some]
      · rw [fj _ (by omega) (by omega) (by omega)]; exact m1 x hx y hy
      · rw [fj _ (by omega) (by omega) (by omega)]; exact m2 u hu
      · rw [fj _ (by omega) (by omega) (by omega)]; exact m3
      · have hk9 : k < G.S.2.2.1.length := hk
        rw [fj _ (by omega) (by omega) (by omega)]; exact m4 k hk
      · rw [mI_wy (by decide), mI_wy (by decide), mI_ws]
        show nI p = qv p
        rw [qv_lt hp]
      · rw [mI_wy (by decide), mI_ws]; rfl
      · rw [mI_ws]; rfl
      · rw [fj _ (by omega) (by omega) (by omega)]; exact m9
      · rw [fj _ (by omega) (by omega) (by omega)]; exact m10
      · rw [fj _ (by omega) (by omega) (by omega)]; exact m11
      · rw [fj _ (by omega) (by omega) (by omega)]; exact m12
  · refine call_look hG 0 (fun σ h => ?_) (fun τ h => ?_)
    · (try dsimp only)
      rw [if_pos (T1 h.l), n1 F σ h, bq_some, if_pos rfl]
    · (try dsimp only)
      rw [if_pos (T85 h.l), n2 F τ h, bq_some, if_pos rfl]
theorem call_seed (hG : GW B G) (a : Int32) : Call B G (fun σ => g_X0_seed F σ 1 a) (fun τ => g_X6_seed F τ 85 a) := by
  unfold g_X0_seed g_X6_seed
  rcases in_is (x := a) (n := 65536) (by decide) (by decide) with ⟨v, hv, rfl⟩ | ⟨n1, n2⟩
  · have hw : DW G.t (B + 300) (setq G.S 7 v) := by
      obtain ⟨d1, d2, d3, d4, d5, d6, d7, d8, d9, d10, d11⟩ := hG.2.2.1
      exact ⟨d1, d2, d3, d4, d5, d6, d7, Nat.le_trans d8 (by omega), d9, hv, d11⟩
    refine ⟨1, G.wS (setq G.S 7 v), hG.upS (by omega) hw hG.2.2.2.1, fun σ h => ?_, fun τ h => ?_⟩
    · have k : kj (fun x y => x = 5) σ (wI σ 5 9 (nI v)) := kj.w rfl
      have r : ∀ x y, (fun x (y : Nat) => x = 5) x y → (x = 5 ∨ (8 ≤ x ∧ x ≤ 19)) ∨ rSC x y := fun x y e => Or.inl (Or.inl e)
      refine ⟨_, ?_, upS_rX r k, h.upS k r (h.2.1.q7.mono (by omega)) (by omega)⟩
      (try dsimp only)
      rw [if_pos (T1 h.l), show (65536 : Int32) = nI 65536 from rfl, in_yes hv (by decide), bq_some, if_neg (by decide), gP_T (T1 h.l), Option.bind_some, P1_4 h.l, pI_T (T5 h.l), Option.bind_some]
    · have k : kj (fun x y => x = 86) τ (wI τ 86 158 (nI v)) := kj.w rfl
      have r : ∀ x y, (fun x (y : Nat) => x = 86) x y → x = 86 ∨ rSM x y := fun x y e => Or.inl e
      refine ⟨_, ?_, upS_rY r k, h.upS k r (MD.q (h := h.2.1) hG.2.2.1.2.1 (by decide))⟩
      (try dsimp only)
      rw [if_pos (T85 h.l), show (65535 : Int32) = nI 65535 from rfl, inM_yes (by omega) (by decide), bq_some, if_neg (by decide), gN h.l, Option.bind_some, s158 h.l, Option.bind_some]
  · refine call_look hG 0 (fun σ h => ?_) (fun τ h => ?_)
    · (try dsimp only)
      rw [if_pos (T1 h.l), show g_X0_in F σ a 65536 = _ from n1 F σ, bq_some, if_pos rfl]
    · (try dsimp only)
      rw [if_pos (T85 h.l), show g_X6_in F τ a 0 65535 = _ from n2 F τ, bq_some, if_pos rfl]
theorem call_keep (hG : GW B G) (hF : 100000 ≤ F) : Call B G (fun σ => g_X0_keep F σ 1) (fun τ => g_X6_keep F τ 85) := by
  unfold g_X0_keep g_X6_keep
  obtain ⟨h1, h2, h3, h4, h5, h6, h7, h8⟩ := hG
  refine ⟨nI (allS G.S.1), mkG G.L G.t G.xs G.ys G.S 1 G.S G.n G.tp, ⟨h1, h2, h3.mono (by omega), h4, Nat.le_refl 1, fun _ => ⟨h3.mono (by omega), h4⟩, h7, h8⟩, fun σ h => ?_, fun τ h => ?_⟩
  · have l1 : lay (wI σ 1 10 1) := h.l
    have k0 : kj (fun x y => x = 1 ∧ y = 10) σ (wI σ 1 10 1) := kj.w ⟨rfl, rfl⟩
    have C1 : CD B (wI σ 1 10 1) 5 G.S := h.2.1.j k0 (fun x y q => by omega)
    obtain ⟨s, e, k, C2⟩ := e_X3_takes (F := F) l1 d35 d5 (by decide) C1 h3.2.2.2.2.2.2.2.2.1 hF
    have l2 := k.ly l1
    have kk : kj (fun x y => (x = 1 ∧ y = 10) ∨ (35 ≤ x ∧ x ≤ 49)) σ s := (k0.mono (fun x y q => Or.inl q)).trans (k.mono (fun x y q => by unfold rT at q; omega))
    obtain ⟨c1, c2, c3, c4, c5, c6⟩ := h
    have C3 : CD B s 5 G.S := c2.j kk (fun x y q => by omega)
    refine ⟨s, ?_, kk.mono (fun x y q => by unfold rX; omega), c1.j kk (fun x y q => by unfold rC; omega), C3.mono (by omega), ?_, fun _ => C2.mono (by omega), ?_, fun k hk => ?_⟩
    · (try dsimp only)
      rw [if_pos (T1 c1.1), pZ_T (T1 c1.1) (Or.inr rfl), Option.bind_some, gP_T (T1 l1), Option.bind_some, P1_6 l1, gP_T (T1 l1), Option.bind_some, P1_4 l1, e, bq_some, gP_T (T1 l2), Option.bind_some, P1_4 l2, dbP l2 d5, Option.bind_some, e_X4_all (d5.B l2) C3.1 (by omega), bq_some]
    · rw [k.2 1 10 (by unfold rT; omega), mI_ws]; rfl
    · rw [kk.2 1 9 (by omega)]; exact c5
    · rw [kk.2 50 k (by omega)]; exact c6 k hk
  · have l1 : lay (wI τ 85 61 1) := h.l
    have k0 : kj (fun x y => x = 85 ∧ y = 61) τ (wI τ 85 61 1) := kj.w ⟨rfl, rfl⟩
    obtain ⟨s, e, k, f⟩ := e_X6_copies (F := F) l1 (A := 86) (A' := 88) (Or.inl rfl) (Or.inr (Or.inr rfl)) (by decide) hF
    have l2 := k.ly l1
    have kk : kj (fun x y => (x = 85 ∧ y = 61) ∨ x = 88) τ s := (k0.mono (fun x y q => Or.inl q)).trans (k.j (fun x y q => Or.inr q))
    obtain ⟨c1, c2, c3, c4, c5, c6⟩ := h
    have M1 : MD (wI τ 85 61 1) 86 G.S := c2.j k0 (fun x y q => by omega)
    have M3 : MD s 86 G.S := c2.j kk (fun x y q => by omega)
    refine ⟨s, ?_, kk.mono (fun x y q => by unfold rY; omega), c1.j kk (fun x y q => by unfold rM; omega), M3, ?_, fun _ => M1.cp h3.2.1 f, ?_, fun k hk => ?_⟩
    · (try dsimp only)
      rw [if_pos (T85 c1.1), pZ_T (T85 c1.1) (Or.inr rfl), Option.bind_some, gN l1, Option.bind_some, gP_T (T85 l1), Option.bind_some, P85_2 l1, e, Option.bind_some, e_X6_owedInAll l2 M3.1 (by omega), bq_some]
    · rw [k.2 85 (by decide), mI_ws]; rfl
    · rw [kk.2 85 7 (by omega)]; exact c5
    · rw [kk.2 91 k (by omega)]; exact c6 k hk
theorem call_undo (hG : GW B G) (hF : 100000 ≤ F) : Call B G (fun σ => g_X0_undo F σ 1) (fun τ => g_X6_undo F τ 85) := by
  unfold g_X0_undo g_X6_undo
  by_cases hk : G.kf = 1
  · have hw := hG.2.2.2.2.2.1 hk
    refine ⟨1, G.wS G.K, hG.upS (by omega) (hw.1.mono (by omega)) hw.2, fun σ h => ?_, fun τ h => ?_⟩
    · obtain ⟨s, e, k, C2⟩ := e_X3_takes (F := F) h.l d5 d35 (by decide) (h.2.2.2.1 hk) hw.1.2.2.2.2.2.2.2.2.1 hF
      have r : ∀ x y, rT 5 x y → (x = 5 ∨ (8 ≤ x ∧ x ≤ 19)) ∨ rSC x y := fun x y q => by unfold rT at q; omega
      refine ⟨s, ?_, upS_rX r k, h.upS k r (C2.mono (by omega)) (by omega)⟩
      (try dsimp only)
      rw [if_pos (T1 h.l), gI_T (T1 h.l), Option.bind_some, h.2.2.1, hk, if_neg (by decide), gP_T (T1 h.l), Option.bind_some, P1_4 h.l, gP_T (T1 h.l), Option.bind_some, P1_6 h.l, e, bq_some]
    · obtain ⟨s, e, k, f⟩ := e_X6_copies (F := F) h.l (A := 88) (A' := 86) (Or.inr (Or.inr rfl)) (Or.inl rfl) (by decide) hF
      have kk := k.j (R := fun x y => x = 86) (fun x y q => q)
      have r : ∀ x y, (fun x (y : Nat) => x = 86) x y → x = 86 ∨ rSM x y := fun x y e => Or.inl e
      refine ⟨s, ?_, upS_rY r kk, h.upS kk r ((h.2.2.2.1 hk).cp hw.1.2.1 f)⟩
      (try dsimp only)
      rw [if_pos (T85 h.l), gI_T (T85 h.l), Option.bind_some, h.2.2.1, hk, if_neg (by decide), gP_T (T85 h.l), Option.bind_some, P85_2 h.l, gN h.l, Option.bind_some, e, Option.bind_some]
  · have h0 : G.kf = 0 := by have := hG.2.2.2.2.1; omega
    refine call_look hG 0 (fun σ h => ?_) (fun τ h => ?_)
    · (try dsimp only)
      rw [if_pos (T1 h.l), gI_T (T1 h.l), Option.bind_some, h.2.2.1, h0, if_pos (show nI 0 = 0 from rfl)]
    · (try dsimp only)
      rw [if_pos (T85 h.l), gI_T (T85 h.l), Option.bind_some, h.2.2.1, h0, if_pos (show nI 0 = 0 from rfl)]
end PUTS
