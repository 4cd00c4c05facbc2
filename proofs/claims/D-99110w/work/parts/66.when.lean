seal gout gin lotS nxtS
/-! WHEN, AND WEDDINGS -/
section WHEN
variable {B F : Nat} {G : GG}
/-- the hours, one after another, each with who got it; stops at the last day -/
theorem goesS_go {L : LW} {xs ys : Nat → Nat} {x : HS} {i : Nat} (h : (goesS L xs ys x i).1.2.2.2 5 < 9999) : goesS L xs ys x (i + 1) = (hourS L xs ys (goesS L xs ys x i)).2 := if_pos h
/-- in which hour from k on p gets it, n at most -/
def whenS (L : LW) (xs ys : Nat → Nat) (x : HS) (p : Nat) : Nat → Nat → Int32
  | 0, _ => -2
  | n + 1, k => if (goesS L xs ys x k).1.2.2.2 5 < 9999 then (if (hourS L xs ys (goesS L xs ys x k)).1 = p then nI (k + 1) else whenS L xs ys x p n (k + 1)) else -2
theorem pv_eq {h p : Nat} (hh : h ≤ 10) (hp : p < 10) : (pv h = nI p) ↔ h = p := by
  constructor
  · intro q
    by_cases c : h < 10
    · rw [pv_lt c] at q
      exact (nI_eq (by omega) (by omega)).mp q
    · have e : h = 10 := by omega
      subst e
      exact absurd q (fun q => by
        have := pv_ne hp
        rw [pv_lt hp] at this
        exact this q.symm)
  · rintro rfl; exact pv_lt hp
theorem qv_eq {h p : Nat} (hh : h ≤ 10) (hp : p < 10) : (qv h = nI p) ↔ h = p := by
  constructor
  · intro q
    by_cases c : h < 10
    · rw [qv_lt c] at q
      exact (nI_eq (by omega) (by omega)).mp q
    · have e : h = 10 := by omega
      subst e
      have := qv_ne hp
      rw [qv_lt hp] at this
      rw [← q] at this
      exact absurd (show qv 10 < 0 by decide) this
  · rintro rfl; exact qv_lt hp
theorem when_C {σ : MM} {D W t Y p : Nat} {x : HS} {xs ys : Nat → Nat} {L : LW} (hp : p < 10) (hK : CK σ L t xs ys) (hD : isD D) (h20 : D = 20) (hC : CH W σ D x) (hw : DW t Y x.1) (hg : GT t x.1) {N : Nat} (hN : N ≤ 240) (hW : W + 240 < 1000000) (hY : Y + 240 < 2147483648) (hF : 100000 ≤ F) : ∃ σ', l_X0_when_48 (fun (σ17 : MM) => some ((-2), σ17)) F 1 (nI p) (nI N) F 1 σ = some (whenS L xs ys x p N 0, σ') ∧ kj (rH D) σ σ' := by
  have key : ∀ n i f s, i + n = N → n < f → kj (rH D) σ s → CH (W + i) s D (goesS L xs ys x i) → ∃ σ', l_X0_when_48 (fun (σ17 : MM) => some ((-2), σ17)) F 1 (nI p) (nI N) f (nI (i + 1)) s = some (whenS L xs ys x p n i, σ') ∧ kj (rH D) σ σ' := by
    intro n
    induction n with
    | zero =>
      intro i f s e hf hk hc
      obtain ⟨f, rfl⟩ : ∃ g, f = g + 1 := ⟨f - 1, by omega⟩
      rw [l_X0_when_48.eq_2, if_pos (nI_lt (by omega) (by omega))]
      exact ⟨s, rfl, hk⟩
    | succ n ih =>
      intro i f s e hf hk hc
      obtain ⟨f, rfl⟩ : ∃ g, f = g + 1 := ⟨f - 1, by omega⟩
      have ks := hK.j hk (rH_rC hD)
      have l := ks.1
      have hwi := goesS_W L xs ys hw hg hK.2.2.xy i
      have e5 : gP s 1 0 22 5 = some D := by rw [gP_T (T1 l), P1_5 l, h20]
      rw [l_X0_when_48.eq_2, if_neg (nI_nlt (by omega) (by omega)), e5, Option.bind_some, e_X3_canGo l hD hc.1 hwi.1 (by omega), bq_some]
      unfold whenS
      by_cases c : (goesS L xs ys x i).1.2.2.2 5 < 9999
      · rw [if_pos c, if_neg (by decide), if_pos c]
        obtain ⟨s2, e2, k2, c2⟩ := e_X3_hourGoes (F := F) ks hD hc (by omega) hwi.1 (by omega) hF
        have hgot : (hourS L xs ys (goesS L xs ys x i)).1 ≤ 10 := hourS_got hwi.1
        rw [e5, Option.bind_some, e2, bq_some, nI_1]
        by_cases c3 : (hourS L xs ys (goesS L xs ys x i)).1 = p
        · rw [if_pos ((pv_eq hgot hp).mpr c3), if_pos c3]
          exact ⟨s2, rfl, hk.trans k2⟩
        · rw [if_neg (fun q => c3 ((pv_eq hgot hp).mp q)), if_neg c3]
          exact ih (i + 1) f s2 (by omega) (by omega) (hk.trans k2) (by rw [goesS_go c]; exact c2)
      · rw [if_neg c, if_pos rfl, if_neg c]
        exact ⟨s, rfl, hk⟩
  exact key N 0 F σ (by omega) (by omega) kj.refl hC
theorem nI_ne2 {k : Nat} (h : k < 2147483648) : nI k ≠ -2 := fun q => by
  have := congrArg Int32.toInt q
  rw [nI_toInt h] at this
  have e : (-2 : Int32).toInt = -2 := rfl
  omega
/-- once told, nothing more is done -/
theorem when_told {σ : MM} {p N k : Nat} (K : Int32 → MM → Option (Int32 × MM)) (l : lay σ) (hk : k < 2147483648) {y : Nat} (hy : y < 2147483648) (h8 : mI σ 86 156 = nI y) (z4 : Int32) (f : Nat) : l_X6_when_56 K F 85 (nI p) (nI N) (f + 1) (nI k) z4 σ = K (nI k) σ := by
  rw [l_X6_when_56.eq_2]
  by_cases c1 : nI N < z4
  · rw [if_pos c1]
  · rw [if_neg c1, gN l, Option.bind_some, a156 l, Option.bind_some, if_neg (nI_ne2 hk)]
    by_cases c2 : mI σ 86 156 < 9999
    · rw [if_pos c2]
    · rw [if_neg c2]
theorem when_M {σ : MM} {t Y p : Nat} {S : DS} {xs ys : Nat → Nat} {L : LW} (K : Int32 → MM → Option (Int32 × MM)) (hp : p < 10) (hK : MK σ L t xs ys) (hM : MH σ (S, 0, 0, 0)) (hw : DW t Y S) (hg : GT t S) {N : Nat} (hN : N ≤ 240) (hY : Y + 240 < 2147483648) (hF : 100000 ≤ F) : ∃ σ', l_X6_when_56 K F 85 (nI p) (nI N) F (-2) 1 σ = K (whenS L xs ys (S, 0, 0, 0) p N 0) σ' ∧ kj rHM σ σ' := by
  have key : ∀ n i f s, i + n = N → n + 2 < f → kj rHM σ s → MH s (goesS L xs ys (S, 0, 0, 0) i) → ∃ σ', l_X6_when_56 K F 85 (nI p) (nI N) f (-2) (nI (i + 1)) s = K (whenS L xs ys (S, 0, 0, 0) p n i) σ' ∧ kj rHM σ σ' := by
    intro n
    induction n with
    | zero =>
      intro i f s e hf hk hc
      obtain ⟨f, rfl⟩ : ∃ g, f = g + 1 := ⟨f - 1, by omega⟩
      rw [l_X6_when_56.eq_2, if_pos (nI_lt (by omega) (by omega))]
      exact ⟨s, rfl, hk⟩
    | succ n ih =>
      intro i f s e hf hk hc
      obtain ⟨f, rfl⟩ : ∃ g, f = g + 1 + 1 := ⟨f - 2, by omega⟩
      have ks := hK.j hk rHM_rM
      have l := ks.1
      have hwi := goesS_W L xs ys (x := (S, 0, 0, 0)) hw hg hK.2.2.xy i
      have h8 : mI s 86 156 = nI ((goesS L xs ys (S, 0, 0, 0) i).1.2.2.2 5) := hc.1.2.2.2.2.2.2.2.2.1
      have hy := hwi.1.2.2.2.2.2.2.2.1
      rw [l_X6_when_56.eq_2, if_neg (nI_nlt (by omega) (by omega)), gN l, Option.bind_some, a156 l, Option.bind_some, h8]
      unfold whenS
      by_cases c : (goesS L xs ys (S, 0, 0, 0) i).1.2.2.2 5 < 9999
      · rw [if_pos (show nI ((goesS L xs ys (S, 0, 0, 0) i).1.2.2.2 5) < 9999 from nI_lt (b := 9999) c (by decide)), if_pos rfl, if_pos c]
        obtain ⟨s2, e2, k2, f2, c2⟩ := e_X6_hourGoes (F := F) ks hc hwi.1 hF
        have hgot : (hourS L xs ys (goesS L xs ys (S, 0, 0, 0) i)).1 ≤ 10 := hourS_got hwi.1
        have l2 := k2.ly l
        rw [e2, Option.bind_some, gI_T (T85 l2), Option.bind_some, f2, nI_1]
        by_cases c3 : (hourS L xs ys (goesS L xs ys (S, 0, 0, 0) i)).1 = p
        · rw [if_pos ((qv_eq hgot hp).mpr c3), if_pos c3]
          have hwj := goesS_W L xs ys (x := (S, 0, 0, 0)) hw hg hK.2.2.xy (i + 1)
          rw [goesS_go c] at hwj
          refine ⟨s2, ?_, hk.trans k2⟩
          exact when_told K l2 (by omega) (y := (hourS L xs ys (goesS L xs ys (S, 0, 0, 0) i)).2.1.2.2.2 5) (by have := hwj.1.2.2.2.2.2.2.2.1; omega) (c2.1.2.2.2.2.2.2.2.2.1) _ f
        · rw [if_neg (fun q => c3 ((qv_eq hgot hp).mp q)), if_neg c3]
          exact ih (i + 1) (f + 1) s2 (by omega) (by omega) (hk.trans k2) (by rw [goesS_go c]; exact c2)
      · rw [if_neg (show ¬ nI ((goesS L xs ys (S, 0, 0, 0) i).1.2.2.2 5) < 9999 from nI_nlt (b := 9999) (by omega) (by omega)), if_neg c]
        exact ⟨s, rfl, hk⟩
  exact key N 0 F σ (by omega) (by omega) kj.refl hM
theorem doneS_1 {L : LW} {xs ys : Nat → Nat} {S : DS} {p p' : Int32} : (doneS L xs ys S p).1 = (doneS L xs ys S p').1 ∧ (doneS L xs ys S p).2.1 = (doneS L xs ys S p').2.1 := by
  unfold doneS
  by_cases c : S.2.2.2 1 < 10
  · rw [if_pos c, if_pos c]
    by_cases c2 : S.2.2.2 3 - 1 = 0
    · rw [if_pos c2, if_pos c2]; exact ⟨rfl, rfl⟩
    · rw [if_neg c2, if_neg c2]; exact ⟨rfl, rfl⟩
  · rw [if_neg c, if_neg c]
    by_cases c2 : S.2.2.2 0 < 10
    · rw [if_pos c2, if_pos c2]; exact ⟨rfl, rfl⟩
    · rw [if_neg c2, if_neg c2]; exact ⟨rfl, rfl⟩
theorem mornS_1 {L : LW} {xs ys : Nat → Nat} {x x' : HS} (h : x.1 = x'.1) : (mornS L xs ys x).1 = (mornS L xs ys x').1 := by
  unfold mornS
  rw [h]
  by_cases c : x'.1.2.2.2 4 = 0
  · rw [if_pos c, if_pos c]
    unfold dayS
    (try dsimp only)
    rw [h]
    exact gout_1 (s := (_, x.2.2.2)) (s' := (_, x'.2.2.2)) rfl 10
  · rw [if_neg c, if_neg c]; exact h
theorem hourS_1 {L : LW} {xs ys : Nat → Nat} {x x' : HS} (h : x.1 = x'.1) : (hourS L xs ys x).1 = (hourS L xs ys x').1 ∧ (hourS L xs ys x).2.1 = (hourS L xs ys x').2.1 := by
  unfold hourS
  (try dsimp only)
  rw [mornS_1 h]
  have d := doneS_1 (L := L) (xs := xs) (ys := ys) (S := (mornS L xs ys x').1) (p := (mornS L xs ys x).2.1) (p' := (mornS L xs ys x').2.1)
  rw [d.1, d.2]
  exact ⟨rfl, rfl⟩
theorem goesS_1 {L : LW} {xs ys : Nat → Nat} {x x' : HS} (h : x.1 = x'.1) : ∀ n, (goesS L xs ys x n).1 = (goesS L xs ys x' n).1
  | 0 => h
  | n + 1 => by
    have ih := goesS_1 (L := L) (xs := xs) (ys := ys) h n
    by_cases c : (goesS L xs ys x' n).1.2.2.2 5 < 9999
    · rw [goesS_go c, goesS_go (by rw [ih]; exact c)]
      exact (hourS_1 ih).2
    · have c' : ¬ (goesS L xs ys x n).1.2.2.2 5 < 9999 := by rw [ih]; exact c
      rw [goesS_stop L xs ys c 1, goesS_stop L xs ys c' 1]
      exact ih
theorem whenS_1 {L : LW} {xs ys : Nat → Nat} {x x' : HS} {p : Nat} (h : x.1 = x'.1) : ∀ n k, whenS L xs ys x p n k = whenS L xs ys x' p n k
  | 0, _ => rfl
  | n + 1, k => by
    unfold whenS
    rw [goesS_1 h k, (hourS_1 (goesS_1 (L := L) (xs := xs) (ys := ys) h k)).1, whenS_1 h n (k + 1)]
theorem call_when (hG : GW B G) (hB : B < 900000) (hF : 100000 ≤ F) (a b : Int32) : Call B G (fun σ => g_X0_when F σ 1 a b) (fun τ => g_X6_when F τ 85 a b) := by
  unfold g_X0_when g_X6_when
  have e1 : (1 : Int32) = nI 1 := rfl
  have e240 : (240 : Int32) = nI 240 := rfl
  rcases told_is (x := a) hG with ⟨p, hp, tp, rfl⟩ | ⟨t1, t2⟩
  · rcases within_is (x := b) (l := 1) (m := 240) (by decide) (by decide) with ⟨N, hN1, hN, rfl, y1, y2⟩ | ⟨n1, n2⟩
    · by_cases hh : G.S.2.2.2 0 = p
      · refine call_look hG 0 (fun σ h => ?_) (fun τ h => ?_)
        · (try dsimp only)
          rw [if_pos (T1 h.l), told_yes h.l h.1.2.2 hp tp, bq_some, if_neg (by decide), e1, e240, y1, bq_some, if_neg (by decide), gP_T (T1 h.l), Option.bind_some, P1_4 h.l, gI_T (T5 h.l), Option.bind_some, h.2.1.2.2.2.1, if_pos ((pv_eq hG.2.2.1.2.2.1 hp).mpr hh)]
        · (try dsimp only)
          rw [if_pos (T85 h.l), person_yes h.l h.1.2.2 hp tp, bq_some, if_neg (by decide), e1, e240, y2, bq_some, if_neg (by decide), gN h.l, Option.bind_some, a151 h.l, Option.bind_some, h.2.1.2.2.2.1, if_pos ((qv_eq hG.2.2.1.2.2.1 hp).mpr hh)]
      · refine call_try hG (whenS G.L G.xs G.ys (G.S, 0, 0, 0) p N 0) (fun σ h => ?_) (fun τ h => ?_)
        · obtain ⟨s1, f1, k1, C1⟩ := e_X3_takes (F := F) h.l d20 d5 (by decide) h.2.1 hG.2.2.1.2.2.2.2.2.2.2.2.1 hF
          have K1 := h.1.j k1 (fun x y q => rSC_rC x y (rT_20 x y q))
          obtain ⟨s, e, k⟩ := when_C (F := F) hp K1 d20 rfl (x := (G.S, mI s1 20 11, mI s1 20 12, mI s1 20 13)) ⟨C1, rfl, rfl, rfl⟩ hG.2.2.1 hG.2.2.2.1 hN (by omega) (by omega) hF
          refine ⟨s, ?_, (k1.mono rT_20).trans (k.mono rH_20)⟩
          (try dsimp only)
          rw [if_pos (T1 h.l), told_yes h.l h.1.2.2 hp tp, bq_some, if_neg (by decide), e1, e240, y1, bq_some, if_neg (by decide), gP_T (T1 h.l), Option.bind_some, P1_4 h.l, gI_T (T5 h.l), Option.bind_some, h.2.1.2.2.2.1, if_neg (fun q => hh ((pv_eq hG.2.2.1.2.2.1 hp).mp q)), gP_T (T1 h.l), Option.bind_some, P1_5 h.l, Option.bind_some, f1, bq_some, ← e1, e]
          rw [whenS_1 (x := (G.S, mI s1 20 11, mI s1 20 12, mI s1 20 13)) (x' := (G.S, 0, 0, 0)) rfl]
        · obtain ⟨s1, f1, k1, g1⟩ := e_X6_copies (F := F) h.l (A := 86) (A' := 87) (Or.inl rfl) (Or.inr (Or.inl rfl)) (by decide) hF
          have k1j := k1.j (R := rSM) (fun x y q => Or.inl q)
          have h1 := h.s k1j (fun _ _ q => q)
          obtain ⟨s2, f2, k2, M2⟩ := e_X6_begins (F := F) h1.l h1.2.1
          have K2 := h1.1.j k2 rHM_rM
          obtain ⟨s, e, k⟩ := when_M (F := F) (fun (r3_16 : Int32) (σ15 : MM) => (gP σ15 85 5 62 1).bind fun p17 => (gP σ15 85 5 62 0).bind fun p18 => (g_X6_copies F σ15 p17 p18).bind fun σ19 => some (r3_16, σ19)) hp K2 M2 hG.2.2.1 hG.2.2.2.1 hN (by omega) hF
          have k3 := k2.trans k
          have l := k3.ly h1.l
          have e87 : mI s 87 = mI s1 87 := k3.row (fun y q => by unfold rHM rN at q; omega)
          obtain ⟨s4, f4, k4, g4⟩ := e_X6_copies (F := F) l (A := 87) (A' := 86) (Or.inr (Or.inl rfl)) (Or.inl rfl) (by decide) hF
          have hb : ∀ k, k < 159 → mI s4 86 k = mI τ 86 k := fun k hk => by rw [g4 k hk, e87, g1 k hk]
          refine ⟨s4, ?_, (k1.j (fun x y q => Or.inr (Or.inl q))).trans ((k3.mono (goesM_86 (fun x y q => q))).trans (k4.j (fun x y q => Or.inl q))), h.2.1.cp hG.2.2.1.2.1 hb⟩
          (try dsimp only)
          rw [if_pos (T85 h.l), person_yes h.l h.1.2.2 hp tp, bq_some, if_neg (by decide), e1, e240, y2, bq_some, if_neg (by decide), gN h.l, Option.bind_some, a151 h.l, Option.bind_some, h.2.1.2.2.2.1, if_neg (fun q => hh ((qv_eq hG.2.2.1.2.2.1 hp).mp q)), Option.bind_some, gP_T (T85 h.l), Option.bind_some, P85_1 h.l, f1, Option.bind_some, f2, Option.bind_some, ← e1, e]
          (try dsimp only)
          rw [gP_T (T85 l), Option.bind_some, P85_1 l, gN l, Option.bind_some, f4, Option.bind_some]
    · refine call_look hG (-1) (fun σ h => ?_) (fun τ h => ?_)
      · (try dsimp only)
        rw [if_pos (T1 h.l), told_yes h.l h.1.2.2 hp tp, bq_some, if_neg (by decide), e1, e240, n1, bq_some, if_pos rfl]
      · (try dsimp only)
        rw [if_pos (T85 h.l), person_yes h.l h.1.2.2 hp tp, bq_some, if_neg (by decide), e1, e240, n2, bq_some, if_pos rfl]
  · refine call_look hG (-1) (fun σ h => ?_) (fun τ h => ?_)
    · (try dsimp only)
      rw [if_pos (T1 h.l), t1 F σ h, bq_some, if_pos rfl]
    · (try dsimp only)
      rw [if_pos (T85 h.l), t2 F τ h, bq_some, if_pos rfl]
end WHEN
