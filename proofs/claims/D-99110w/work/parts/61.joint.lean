/-! BOTH AT ONCE -/
abbrev GG : Type := LW × Nat × (Nat → Nat) × (Nat → Nat) × DS × Nat × DS × Nat × (Nat → Int32)
abbrev GG.L (G : GG) : LW := G.1
abbrev GG.t (G : GG) : Nat := G.2.1
abbrev GG.xs (G : GG) : Nat → Nat := G.2.2.1
abbrev GG.ys (G : GG) : Nat → Nat := G.2.2.2.1
abbrev GG.S (G : GG) : DS := G.2.2.2.2.1
abbrev GG.kf (G : GG) : Nat := G.2.2.2.2.2.1
abbrev GG.K (G : GG) : DS := G.2.2.2.2.2.2.1
abbrev GG.n (G : GG) : Nat := G.2.2.2.2.2.2.2.1
abbrev GG.tp (G : GG) : Nat → Int32 := G.2.2.2.2.2.2.2.2
abbrev mkG (L : LW) (t : Nat) (xs ys : Nat → Nat) (S : DS) (kf : Nat) (K : DS) (n : Nat) (tp : Nat → Int32) : GG := (L, t, xs, ys, S, kf, K, n, tp)
abbrev GG.wS (G : GG) (S : DS) : GG := mkG G.L G.t G.xs G.ys S G.kf G.K G.n G.tp
def GT (t : Nat) (S : DS) : Prop := S.2.2.2 1 < 10 → t.testBit (S.2.2.2 1) = true
def GW (B : Nat) (G : GG) : Prop := G.t < 1024 ∧ (∀ p, p < 10 → G.xs p < 10 ∧ G.ys p < 10) ∧ DW G.t B G.S ∧ GT G.t G.S ∧ G.kf ≤ 1 ∧ (G.kf = 1 → DW G.t B G.K ∧ GT G.t G.K) ∧ G.n ≤ 260 ∧ G.L.1 ≤ 16
def CI (B : Nat) (σ : MM) (G : GG) : Prop := CK σ G.L G.t G.xs G.ys ∧ CD B σ 5 G.S ∧ mI σ 1 10 = nI G.kf ∧ (G.kf = 1 → CD B σ 35 G.K) ∧ mI σ 1 9 = nI G.n ∧ ∀ k, k < G.n → mI σ 50 k = G.tp k
def MI (τ : MM) (G : GG) : Prop := MK τ G.L G.t G.xs G.ys ∧ MD τ 86 G.S ∧ mI τ 85 61 = nI G.kf ∧ (G.kf = 1 → MD τ 88 G.K) ∧ mI τ 85 7 = nI G.n ∧ ∀ k, k < G.n → mI τ 91 k = G.tp k
def rX (x _y : Nat) : Prop := x < 85
def rY (x _y : Nat) : Prop := 85 ≤ x ∧ x ≤ 122
/-- scratch of the component, of the model -/
def rSC (x y : Nat) : Prop := x = 4 ∨ (20 ≤ x ∧ x ≤ 34) ∨ (55 ≤ x ∧ x ≤ 84) ∨ (x = 1 ∧ (y = 11 ∨ y = 15))
def rSM (x y : Nat) : Prop := x = 87 ∨ (92 ≤ x ∧ x ≤ 97) ∨ (103 ≤ x ∧ x ≤ 122) ∨ (x = 85 ∧ y ≠ 5 ∧ y ≠ 7 ∧ y ≠ 16 ∧ y ≠ 61)
theorem rSC_rX (x y : Nat) (h : rSC x y) : rX x y := by
  unfold rSC at h
  unfold rX
  omega
theorem rSM_rY (x y : Nat) (h : rSM x y) : rY x y := by
  unfold rSM at h
  unfold rY
  omega
theorem rSC_rC (x y : Nat) (h : rSC x y) : rC x y := by
  unfold rSC at h
  unfold rC
  omega
theorem rSM_rM (x y : Nat) (h : rSM x y) : rM x y := by
  unfold rSM at h
  unfold rM
  omega
section JOINT
variable {σ σ' : MM} {B B' : Nat} {G : GG} {R : Nat → Nat → Prop}
theorem CI.l (h : CI B σ G) : lay σ := h.1.1
theorem MI.l (h : MI σ G) : lay σ := h.1.1
theorem CI.s (h : CI B σ G) (g : kj R σ σ') (hR : ∀ x y, R x y → rSC x y) : CI B σ' G := by
  have g := g.mono hR
  obtain ⟨h1, h2, h3, h4, h5, h6⟩ := h
  refine ⟨h1.j g rSC_rC, h2.j g (fun x y q => ?_), ?_, fun q => (h4 q).j g (fun x y q => ?_), ?_, fun k hk => ?_⟩
  · unfold rSC at q; omega
  · rw [g.2 1 10 (by unfold rSC; omega)]; exact h3
  · unfold rSC at q; omega
  · rw [g.2 1 9 (by unfold rSC; omega)]; exact h5
  · rw [g.2 50 k (by unfold rSC; omega)]; exact h6 k hk
theorem MI.s (h : MI σ G) (g : kj R σ σ') (hR : ∀ x y, R x y → rSM x y) : MI σ' G := by
  have g := g.mono hR
  obtain ⟨h1, h2, h3, h4, h5, h6⟩ := h
  refine ⟨h1.j g rSM_rM, h2.j g (fun x y q => ?_), ?_, fun q => (h4 q).j g (fun x y q => ?_), ?_, fun k hk => ?_⟩
  · unfold rSM at q; omega
  · rw [g.2 85 61 (by unfold rSM; omega)]; exact h3
  · unfold rSM at q; omega
  · rw [g.2 85 7 (by unfold rSM; omega)]; exact h5
  · rw [g.2 91 k (by unfold rSM; omega)]; exact h6 k hk
/-- the other's cells -/
theorem CI.o (h : CI B σ G) (g : kj rY σ σ') : CI B σ' G := by
  obtain ⟨h1, h2, h3, h4, h5, h6⟩ := h
  refine ⟨h1.j g (fun x y q => ?_), h2.j g (fun x y q => ?_), ?_, fun q => (h4 q).j g (fun x y q => ?_), ?_, fun k hk => ?_⟩
  · unfold rY at q; unfold rC; omega
  · unfold rY at q; omega
  · rw [g.2 1 10 (by unfold rY; omega)]; exact h3
  · unfold rY at q; omega
  · rw [g.2 1 9 (by unfold rY; omega)]; exact h5
  · rw [g.2 50 k (by unfold rY; omega)]; exact h6 k hk
theorem MI.o (h : MI σ G) (l : lay σ') (g : ∀ a, 85 ≤ a → a ≤ 122 → mI σ' a = mI σ a) : MI σ' G := by
  obtain ⟨⟨-, h1, h1'⟩, h2, h3, h4, h5, h6⟩ := h
  refine ⟨⟨l, h1.keep ⟨l, by rw [g 85 (by decide) (by decide)], fun a u v => g a (by omega) (by omega)⟩, h1'.keep (by rw [g 85 (by decide) (by decide)]) (g 89 (by decide) (by decide)) (g 90 (by decide) (by decide))⟩, h2.keep (g 86 (by decide) (by decide)), ?_, fun q => (h4 q).keep (g 88 (by decide) (by decide)), ?_, fun k hk => ?_⟩
  · rw [g 85 (by decide) (by decide)]; exact h3
  · rw [g 85 (by decide) (by decide)]; exact h5
  · rw [g 91 (by decide) (by decide)]; exact h6 k hk
theorem CI.mono (h : CI B σ G) (hB : B ≤ B') : CI B' σ G := ⟨h.1, h.2.1.mono hB, h.2.2.1, fun q => (h.2.2.2.1 q).mono hB, h.2.2.2.2⟩
theorem DW.mono {t Y Y' : Nat} {S : DS} (h : DW t Y S) (hY : Y ≤ Y') : DW t Y' S := by
  obtain ⟨d1, d2, d3, d4, d5, d6, d7, d8, d9⟩ := h
  exact ⟨d1, d2, d3, d4, d5, d6, d7, by omega, d9⟩
theorem GW.mono (h : GW B G) (hB : B ≤ B') : GW B' G := by
  obtain ⟨h1, h2, h3, h4, h5, h6, h7⟩ := h
  exact ⟨h1, h2, h3.mono hB, h4, h5, fun q => ⟨(h6 q).1.mono hB, (h6 q).2⟩, h7⟩
end JOINT
/-- a call, both answer alike and keep what must be kept -/
def Call (B : Nat) (G : GG) (gx gm : MM → Option (Int32 × MM)) : Prop := ∃ r G', GW (B + 300) G' ∧ (∀ σ, CI B σ G → ∃ σ', gx σ = some (r, σ') ∧ kj rX σ σ' ∧ CI (B + 300) σ' G') ∧ (∀ τ, MI τ G → ∃ τ', gm τ = some (r, τ') ∧ kj rY τ τ' ∧ MI τ' G')
/-- a call that only looks -/
theorem call_same {B : Nat} {G : GG} {gx gm : MM → Option (Int32 × MM)} (hG : GW B G) (r : Int32) (h1 : ∀ σ, CI B σ G → ∃ σ', gx σ = some (r, σ') ∧ kj rSC σ σ') (h2 : ∀ τ, MI τ G → ∃ τ', gm τ = some (r, τ') ∧ kj rSM τ τ') : Call B G gx gm := by
  refine ⟨r, G, hG.mono (by omega), fun σ h => ?_, fun τ h => ?_⟩
  · obtain ⟨σ', e, k⟩ := h1 σ h
    exact ⟨σ', e, k.mono rSC_rX, (h.s k (fun _ _ q => q)).mono (by omega)⟩
  · obtain ⟨σ', e, k⟩ := h2 τ h
    exact ⟨σ', e, k.mono rSM_rY, h.s k (fun _ _ q => q)⟩
/-- not even that -/
theorem call_look {B : Nat} {G : GG} {gx gm : MM → Option (Int32 × MM)} (hG : GW B G) (r : Int32) (h1 : ∀ σ, CI B σ G → gx σ = some (r, σ)) (h2 : ∀ τ, MI τ G → gm τ = some (r, τ)) : Call B G gx gm :=
  call_same hG r (fun σ h => ⟨σ, h1 σ h, kj.refl⟩) (fun τ h => ⟨τ, h2 τ h, kj.refl⟩)
/-- told of, or not -/
theorem told_is {x : Int32} {B : Nat} {G : GG} (hG : GW B G) : (∃ p, p < 10 ∧ G.t.testBit p = true ∧ x = nI p) ∨ ((∀ F σ, CI B σ G → g_X0_isTold F σ 1 x = some (0, σ)) ∧ ∀ F τ, MI τ G → g_X6_isPerson F τ 85 x = some (0, τ)) := by
  rcases isNo G.t x with h | h
  · exact Or.inl h
  · exact Or.inr ⟨fun F σ hC => told_no hC.l hC.1.2.2 h, fun F τ hM => person_no hM.l hM.1.2.2 h⟩
/-- within l .. m -/
theorem within_is {x : Int32} {l m : Nat} (hl : l ≤ m) (hm : m < 2147483647) : (∃ k, l ≤ k ∧ k ≤ m ∧ x = nI k ∧ (∀ F σ, g_X0_within F σ x (nI l) (nI m) = some (1, σ)) ∧ ∀ F σ, g_X6_in F σ x (nI l) (nI m) = some (1, σ)) ∨ ((∀ F σ, g_X0_within F σ x (nI l) (nI m) = some (0, σ)) ∧ ∀ F σ, g_X6_in F σ x (nI l) (nI m) = some (0, σ)) := by
  by_cases c : x < nI l
  · refine Or.inr ⟨fun F σ => ?_, fun F σ => ?_⟩
    · unfold g_X0_within; rw [if_pos c]
    · unfold g_X6_in; rw [if_pos c]
  · by_cases c2 : nI m < x
    · refine Or.inr ⟨fun F σ => ?_, fun F σ => ?_⟩
      · unfold g_X0_within; rw [if_neg c, if_pos c2]
      · unfold g_X6_in; rw [if_neg c, if_pos c2]
    · have hx : ¬ x < 0 := fun q => c (by
        rw [Int32.lt_iff_toInt_lt] at q ⊢
        rw [nI_toInt (by omega)]
        have : (0 : Int32).toInt = 0 := rfl
        omega)
      obtain ⟨j, hj, rfl⟩ := nI_of hx
      refine Or.inl ⟨j, Nat.le_of_not_lt (fun q => c (nI_lt q (by omega))), Nat.le_of_not_lt (fun q => c2 (nI_lt q hj)), rfl, fun F σ => ?_, fun F σ => ?_⟩
      · unfold g_X0_within; rw [if_neg c, if_neg c2]
      · unfold g_X6_in; rw [if_neg c, if_neg c2]
theorem in_is {x : Int32} {n : Nat} (hn : n < 2147483648) (h0 : 0 < n) : (∃ k, k < n ∧ x = nI k) ∨ ((∀ F σ, g_X0_in F σ x (nI n) = some (0, σ)) ∧ ∀ F σ, g_X6_in F σ x 0 (nI (n - 1)) = some (0, σ)) := by
  rcases Classical.em (∃ k, k < n ∧ x = nI k) with h | h
  · exact Or.inl h
  · exact Or.inr ⟨fun F σ => in_no hn (fun k hk e => h ⟨k, hk, e⟩), fun F σ => inM_no (by omega) (fun k hk e => h ⟨k, by omega, e⟩)⟩
/-- two told of -/
theorem two_is {a b : Int32} {B : Nat} {G : GG} (hG : GW B G) : (∃ p q, p < 10 ∧ q < 10 ∧ p ≠ q ∧ G.t.testBit p = true ∧ G.t.testBit q = true ∧ a = nI p ∧ b = nI q ∧ (∀ F σ, CI B σ G → g_X0_areTwo F σ 1 a b = some (1, σ)) ∧ ∀ F τ, MI τ G → g_X6_areTwo F τ 85 a b = some (1, τ)) ∨ ((∀ F σ, CI B σ G → g_X0_areTwo F σ 1 a b = some (0, σ)) ∧ ∀ F τ, MI τ G → g_X6_areTwo F τ 85 a b = some (0, τ)) := by
  unfold g_X0_areTwo g_X6_areTwo
  rcases told_is (x := a) hG with ⟨p, hp, tp, rfl⟩ | ⟨n1, n2⟩
  · rcases told_is (x := b) hG with ⟨q, hq, tq, rfl⟩ | ⟨n1, n2⟩
    · by_cases c : p = q
      · subst c
        refine Or.inr ⟨fun F σ h => ?_, fun F τ h => ?_⟩
        · rw [if_pos (T1 h.l), told_yes h.l h.1.2.2 hp tp, bq_some, if_neg (by decide), told_yes h.l h.1.2.2 hp tp, bq_some, if_neg (by decide), if_pos rfl]
        · rw [if_pos (T85 h.l), person_yes h.l h.1.2.2 hp tp, bq_some, if_neg (by decide), person_yes h.l h.1.2.2 hp tp, bq_some, if_neg (by decide), if_pos rfl]
      · have c' : ¬ nI p = nI q := fun e => c ((nI_eq (by omega) (by omega)).mp e)
        refine Or.inl ⟨p, q, hp, hq, c, tp, tq, rfl, rfl, fun F σ h => ?_, fun F τ h => ?_⟩
        · rw [if_pos (T1 h.l), told_yes h.l h.1.2.2 hp tp, bq_some, if_neg (by decide), told_yes h.l h.1.2.2 hq tq, bq_some, if_neg (by decide), if_neg c']
        · rw [if_pos (T85 h.l), person_yes h.l h.1.2.2 hp tp, bq_some, if_neg (by decide), person_yes h.l h.1.2.2 hq tq, bq_some, if_neg (by decide), if_neg c']
    · refine Or.inr ⟨fun F σ h => ?_, fun F τ h => ?_⟩
      · rw [if_pos (T1 h.l), told_yes h.l h.1.2.2 hp tp, bq_some, if_neg (by decide), n1 F σ h, bq_some, if_pos rfl]
      · rw [if_pos (T85 h.l), person_yes h.l h.1.2.2 hp tp, bq_some, if_neg (by decide), n2 F τ h, bq_some, if_pos rfl]
  · refine Or.inr ⟨fun F σ h => ?_, fun F τ h => ?_⟩
    · rw [if_pos (T1 h.l), n1 F σ h, bq_some, if_pos rfl]
    · rw [if_pos (T85 h.l), n2 F τ h, bq_some, if_pos rfl]
