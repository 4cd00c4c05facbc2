seal gout gin lotS nxtS
/-! WEDDINGS, the model and the call -/
section WEDDM
variable {B F : Nat} {G : GG}
theorem wedd_told {σ : MM} {p q N k : Nat} (K : Int32 → MM → Option (Int32 × MM)) (l : lay σ) (hk : k < 2147483648) (z5 z6 : Int32) (f : Nat) : l_X6_wedding_47 K F 85 (nI p) (nI q) (nI N) (f + 1) (nI k) z5 z6 σ = K (nI k) σ := by
  rw [l_X6_wedding_47.eq_2]
  by_cases c1 : z6 < nI N
  · rw [if_pos c1, gN l, Option.bind_some, a156 l, Option.bind_some, if_neg (nI_ne2 hk)]
    by_cases c2 : mI σ 86 156 < 9999
    · rw [if_pos c2]
    · rw [if_neg c2]
  · rw [if_neg c1]
theorem wedd_M {σ : MM} {t Y p q : Nat} {S : DS} {xs ys : Nat → Nat} {L : LW} (K : Int32 → MM → Option (Int32 × MM)) (hp : p < 10) (hq : q < 10) (hK : MK σ L t xs ys) (hM : MH σ (S, 0, 0, 0)) (hw : DW t Y S) (hg : GT t S) {N : Nat} (hN : N ≤ 240) (hY : Y + 240 < 2147483648) (hF : 100000 ≤ F) : ∃ σ', l_X6_wedding_47 K F 85 (nI p) (nI q) (nI N) F (-2) 0 0 σ = K (wedS L xs ys (S, 0, 0, 0) p q N 0 0) σ' ∧ kj rHM σ σ' := by
  have key : ∀ n i f s v, i + n = N → n + 2 < f → v < 1024 → kj rHM σ s → MH s (goesS L xs ys (S, 0, 0, 0) i) → ∃ σ', l_X6_wedding_47 K F 85 (nI p) (nI q) (nI N) f (-2) (nI v) (nI i) s = K (wedS L xs ys (S, 0, 0, 0) p q n i v) σ' ∧ kj rHM σ σ' := by
    intro n
    induction n with
    | zero =>
      intro i f s v e hf hv hk hc
      obtain ⟨f, rfl⟩ : ∃ g, f = g + 1 := ⟨f - 1, by omega⟩
      rw [l_X6_wedding_47.eq_2, if_neg (nI_nlt (by omega) (by omega))]
      exact ⟨s, rfl, hk⟩
    | succ n ih =>
      intro i f s v e hf hv hk hc
      obtain ⟨f, rfl⟩ : ∃ g, f = g + 1 + 1 := ⟨f - 2, by omega⟩
      have ks := hK.j hk rHM_rM
      have l := ks.1
      have hwi := goesS_W L xs ys (x := (S, 0, 0, 0)) hw hg hK.2.2.xy i
      have h8 : mI s 86 156 = nI ((goesS L xs ys (S, 0, 0, 0) i).1.2.2.2 5) := hc.1.2.2.2.2.2.2.2.2.1
      have h7 : mI s 86 155 = nI ((goesS L xs ys (S, 0, 0, 0) i).1.2.2.2 4) := hc.1.2.2.2.2.2.2.2.1
      have hy := hwi.1.2.2.2.2.2.2.2.1
      have h24 := hwi.1.2.2.2.2.2.2.1
      have a8 : aI s 86 20 156 = some (nI ((goesS L xs ys (S, 0, 0, 0) i).1.2.2.2 5)) := by rw [a156 l, h8]
      have a7 : aI s 86 20 155 = some (nI ((goesS L xs ys (S, 0, 0, 0) i).1.2.2.2 4)) := by rw [a155 l, h7]
      rw [l_X6_wedding_47.eq_2, if_pos (nI_lt (by omega) (by omega))]
      simp only [gN l, Option.bind_some, a8, a7]
      unfold wedS
      by_cases c : (goesS L xs ys (S, 0, 0, 0) i).1.2.2.2 5 < 9999
      · rw [if_pos (show nI ((goesS L xs ys (S, 0, 0, 0) i).1.2.2.2 5) < 9999 from nI_lt (b := 9999) c (by decide)), if_pos trivial, if_pos c]
        obtain ⟨s2, e2, k2, f2, c2⟩ := e_X6_hourGoes (F := F) ks hc hwi.1 hF
        have hgot : (hourS L xs ys (goesS L xs ys (S, 0, 0, 0) i)).1 ≤ 10 := hourS_got hwi.1
        have hwj := goesS_W L xs ys (x := (S, 0, 0, 0)) hw hg hK.2.2.xy (i + 1)
        have l2 := k2.ly l
        have g35 : gI s2 85 5 62 35 = some (qv (hourS L xs ys (goesS L xs ys (S, 0, 0, 0) i)).1) := by rw [gI_T (T85 l2), f2]
        have sl := seen_lt (L := L) (xs := xs) (ys := ys) (z := goesS L xs ys (S, 0, 0, 0) i) hv
        dsimp only [jn]
        -- what follows when so many are seen
        have fin : ∀ u : Nat, u < 1024 → (bq (g_X6_has F s2 (nI u) (nI p)) fun v24 σ23 => if v24 = 0 then (l_X6_wedding_47 K F 85 (nI p) (nI q) (nI N) (f + 1) (-2) (nI u) ((nI i + 1)) σ23) else (bq (g_X6_has F σ23 (nI u) (nI q)) fun v26 σ25 => if v26 = 0 then (l_X6_wedding_47 K F 85 (nI p) (nI q) (nI N) (f + 1) (-2) (nI u) ((nI i + 1)) σ25) else (l_X6_wedding_47 K F 85 (nI p) (nI q) (nI N) (f + 1) (nI ((goesS L xs ys (S, 0, 0, 0) i).1.2.2.2 5)) (nI u) ((nI i + 1)) σ25))) = if u.testBit p = true ∧ u.testBit q = true then K (nI ((goesS L xs ys (S, 0, 0, 0) i).1.2.2.2 5)) s2 else l_X6_wedding_47 K F 85 (nI p) (nI q) (nI N) (f + 1) (-2) (nI u) (nI (i + 1)) s2 := by
          intro u hu
          rw [e_hasM (by omega) (by omega), bq_some, nI_1]
          by_cases d1 : u.testBit p = true
          · rw [if_pos d1, if_neg (by decide), e_hasM (by omega) (by omega), bq_some]
            by_cases d2 : u.testBit q = true
            · rw [if_pos d2, if_neg (by decide), if_pos ⟨d1, d2⟩]
              exact wedd_told K l2 (by omega) _ _ f
            · rw [if_neg d2, if_pos rfl, if_neg (fun r => d2 r.2)]
          · rw [if_neg d1, if_pos rfl, if_neg (fun r => d1 r.1)]
        have mid : ∀ u : Nat, u < 1024 → u = (if (goesS L xs ys (S, 0, 0, 0) i).1.2.2.2 4 = 0 then 0 else v) → ((g_X6_hourGoes F s 85).bind fun σ18 => (gI σ18 85 5 62 35).bind fun v19 => if v19 < 0 then (bq (g_X6_has F σ18 (nI u) (nI p)) fun v24 σ23 => if v24 = 0 then (l_X6_wedding_47 K F 85 (nI p) (nI q) (nI N) (f + 1) (-2) (nI u) ((nI i + 1)) σ23) else (bq (g_X6_has F σ23 (nI u) (nI q)) fun v26 σ25 => if v26 = 0 then (l_X6_wedding_47 K F 85 (nI p) (nI q) (nI N) (f + 1) (-2) (nI u) ((nI i + 1)) σ25) else (l_X6_wedding_47 K F 85 (nI p) (nI q) (nI N) (f + 1) (nI ((goesS L xs ys (S, 0, 0, 0) i).1.2.2.2 5)) (nI u) ((nI i + 1)) σ25))) else ((gI σ18 85 5 62 35).bind fun v27 => bq (g_X6_has F σ18 ((nI u ||| ((1 : Int32) <<< (v27 &&& 31)))) (nI p)) fun v24 σ23 => if v24 = 0 then (l_X6_wedding_47 K F 85 (nI p) (nI q) (nI N) (f + 1) (-2) ((nI u ||| ((1 : Int32) <<< (v27 &&& 31)))) ((nI i + 1)) σ23) else (bq (g_X6_has F σ23 ((nI u ||| ((1 : Int32) <<< (v27 &&& 31)))) (nI q)) fun v26 σ25 => if v26 = 0 then (l_X6_wedding_47 K F 85 (nI p) (nI q) (nI N) (f + 1) (-2) ((nI u ||| ((1 : Int32) <<< (v27 &&& 31)))) ((nI i + 1)) σ25) else (l_X6_wedding_47 K F 85 (nI p) (nI q) (nI N) (f + 1) (nI ((goesS L xs ys (S, 0, 0, 0) i).1.2.2.2 5)) ((nI u ||| ((1 : Int32) <<< (v27 &&& 31)))) ((nI i + 1)) σ25)))) = (if (seenS L xs ys (goesS L xs ys (S, 0, 0, 0) i) v).testBit p = true ∧ (seenS L xs ys (goesS L xs ys (S, 0, 0, 0) i) v).testBit q = true then K (nI ((goesS L xs ys (S, 0, 0, 0) i).1.2.2.2 5)) s2 else l_X6_wedding_47 K F 85 (nI p) (nI q) (nI N) (f + 1) (-2) (nI (seenS L xs ys (goesS L xs ys (S, 0, 0, 0) i) v)) (nI (i + 1)) s2) := by
          intro u hu hue
          rw [e2, Option.bind_some, g35, Option.bind_some]
          unfold seenS
          rw [← hue]
          by_cases d : (hourS L xs ys (goesS L xs ys (S, 0, 0, 0) i)).1 < 10
          · rw [if_neg (qv_ne d), Option.bind_some, if_pos d, qv_lt d, bx_one (by omega), bx_or]
            exact fin _ (Nat.or_lt_two_pow (n := 10) hu (Nat.pow_lt_pow_right (by decide) d))
          · have d10 : (hourS L xs ys (goesS L xs ys (S, 0, 0, 0) i)).1 = 10 := by omega
            rw [d10, if_pos (show qv 10 < 0 by decide)]
            simp only [if_neg (show ¬ (10 : Nat) < 10 by decide)]
            exact fin u hu
        have all : ∀ Z, Z = (if (seenS L xs ys (goesS L xs ys (S, 0, 0, 0) i) v).testBit p = true ∧ (seenS L xs ys (goesS L xs ys (S, 0, 0, 0) i) v).testBit q = true then K (nI ((goesS L xs ys (S, 0, 0, 0) i).1.2.2.2 5)) s2 else l_X6_wedding_47 K F 85 (nI p) (nI q) (nI N) (f + 1) (-2) (nI (seenS L xs ys (goesS L xs ys (S, 0, 0, 0) i) v)) (nI (i + 1)) s2) → ∃ σ', Z = K (if (seenS L xs ys (goesS L xs ys (S, 0, 0, 0) i) v).testBit p = true ∧ (seenS L xs ys (goesS L xs ys (S, 0, 0, 0) i) v).testBit q = true then nI ((goesS L xs ys (S, 0, 0, 0) i).1.2.2.2 5) else wedS L xs ys (S, 0, 0, 0) p q n (i + 1) (seenS L xs ys (goesS L xs ys (S, 0, 0, 0) i) v)) σ' ∧ kj rHM σ σ' := by
          rintro Z rfl
          by_cases d : (seenS L xs ys (goesS L xs ys (S, 0, 0, 0) i) v).testBit p = true ∧ (seenS L xs ys (goesS L xs ys (S, 0, 0, 0) i) v).testBit q = true
          · rw [if_pos d, if_pos d]
            exact ⟨s2, rfl, hk.trans k2⟩
          · rw [if_neg d, if_neg d]
            exact ih (i + 1) (f + 1) s2 _ (by omega) (by omega) sl (hk.trans k2) (by rw [goesS_go c]; exact c2)
        refine all _ ?_
        by_cases d0 : (goesS L xs ys (S, 0, 0, 0) i).1.2.2.2 4 = 0
        · rw [if_pos (show nI ((goesS L xs ys (S, 0, 0, 0) i).1.2.2.2 4) = 0 by rw [d0]; rfl)]
          exact mid 0 (by decide) (by rw [if_pos d0])
        · rw [if_neg (nI_ne0 (n := (goesS L xs ys (S, 0, 0, 0) i).1.2.2.2 4) (by omega) (by omega))]
          exact mid v hv (by rw [if_neg d0])
      · rw [if_neg (show ¬ nI ((goesS L xs ys (S, 0, 0, 0) i).1.2.2.2 5) < 9999 from nI_nlt (b := 9999) (by omega) (by omega)), if_neg c]
        exact ⟨s, rfl, hk⟩
  exact key N 0 F σ 0 (by omega) (by omega) (by decide) kj.refl hM
theorem call_wedding (hG : GW B G) (hB : B < 900000) (hF : 100000 ≤ F) (a b c : Int32) : Call B G (fun σ => g_X0_wedding F σ 1 a b c) (fun τ => g_X6_wedding F τ 85 a b c) := by
  unfold g_X0_wedding g_X6_wedding
  have e1 : (1 : Int32) = nI 1 := rfl
  have e240 : (240 : Int32) = nI 240 := rfl
  rcases two_is (a := a) (b := b) hG with ⟨p, q, hp, hq, hpq, tp, tq, rfl, rfl, t1, t2⟩ | ⟨t1, t2⟩
  · rcases within_is (x := c) (l := 1) (m := 240) (by decide) (by decide) with ⟨N, hN1, hN, rfl, y1, y2⟩ | ⟨n1, n2⟩
    · refine call_try hG (wedS G.L G.xs G.ys (G.S, 0, 0, 0) p q N 0 0) (fun σ h => ?_) (fun τ h => ?_)
      · obtain ⟨s1, f1, k1, C1⟩ := e_X3_takes (F := F) h.l d20 d5 (by decide) h.2.1 hG.2.2.1.2.2.2.2.2.2.2.2.1 hF
        have K1 := h.1.j k1 (fun x y q => rSC_rC x y (rT_20 x y q))
        obtain ⟨s, e, k⟩ := wedd_C (F := F) hp hq K1 d20 rfl (x := (G.S, mI s1 20 11, mI s1 20 12, mI s1 20 13)) ⟨C1, rfl, rfl, rfl⟩ hG.2.2.1 hG.2.2.2.1 hN (by omega) (by omega) hF
        refine ⟨s, ?_, (k1.mono rT_20).trans (k.mono rH_20)⟩
        (try dsimp only)
        rw [if_pos (T1 h.l), t1 F σ h, bq_some, if_neg (by decide), e1, e240, y1, bq_some, if_neg (by decide), gP_T (T1 h.l), Option.bind_some, P1_5 h.l, gP_T (T1 h.l), Option.bind_some, P1_4 h.l, f1, bq_some, ← e1, e]
        rw [wedS_1 (x := (G.S, mI s1 20 11, mI s1 20 12, mI s1 20 13)) (x' := (G.S, 0, 0, 0)) rfl]
      · obtain ⟨s1, f1, k1, g1⟩ := e_X6_copies (F := F) h.l (A := 86) (A' := 87) (Or.inl rfl) (Or.inr (Or.inl rfl)) (by decide) hF
        have k1j := k1.j (R := rSM) (fun x y q => Or.inl q)
        have h1 := h.s k1j (fun _ _ q => q)
        obtain ⟨s2, f2, k2, M2⟩ := e_X6_begins (F := F) h1.l h1.2.1
        have K2 := h1.1.j k2 rHM_rM
        obtain ⟨s, e, k⟩ := wedd_M (F := F) (fun (r4_29 : Int32) (σ28 : MM) => (gP σ28 85 5 62 1).bind fun p30 => (gP σ28 85 5 62 0).bind fun p31 => (g_X6_copies F σ28 p30 p31).bind fun σ32 => some (r4_29, σ32)) hp hq K2 M2 hG.2.2.1 hG.2.2.2.1 hN (by omega) hF
        have k3 := k2.trans k
        have l := k3.ly h1.l
        have e87 : mI s 87 = mI s1 87 := k3.row (fun y q => by unfold rHM rN at q; omega)
        obtain ⟨s4, f4, k4, g4⟩ := e_X6_copies (F := F) l (A := 87) (A' := 86) (Or.inr (Or.inl rfl)) (Or.inl rfl) (by decide) hF
        have hb : ∀ k, k < 159 → mI s4 86 k = mI τ 86 k := fun k hk => by rw [g4 k hk, e87, g1 k hk]
        refine ⟨s4, ?_, (k1.j (fun x y q => Or.inr (Or.inl q))).trans ((k3.mono (goesM_86 (fun x y q => q))).trans (k4.j (fun x y q => Or.inl q))), h.2.1.cp hG.2.2.1.2.1 hb⟩
        (try dsimp only)
        rw [if_pos (T85 h.l), t2 F τ h, bq_some, if_neg (by decide), e1, e240, y2, bq_some, if_neg (by decide), gN h.l, Option.bind_some, gP_T (T85 h.l), Option.bind_some, P85_1 h.l, f1, Option.bind_some, f2, Option.bind_some, e]
        (try dsimp only)
        rw [gP_T (T85 l), Option.bind_some, P85_1 l, gN l, Option.bind_some, f4, Option.bind_some]
    · refine call_look hG (-1) (fun σ h => ?_) (fun τ h => ?_)
      · (try dsimp only)
        rw [if_pos (T1 h.l), t1 F σ h, bq_some, if_neg (by decide), e1, e240, n1, bq_some, if_pos rfl]
      · (try dsimp only)
        rw [if_pos (T85 h.l), t2 F τ h, bq_some, if_neg (by decide), e1, e240, n2, bq_some, if_pos rfl]
  · refine call_look hG (-1) (fun σ h => ?_) (fun τ h => ?_)
    · (try dsimp only)
      rw [if_pos (T1 h.l), t1 F σ h, bq_some, if_pos rfl]
    · (try dsimp only)
      rw [if_pos (T85 h.l), t2 F τ h, bq_some, if_pos rfl]
end WEDDM
