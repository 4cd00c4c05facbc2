/-! DEBTS ONE BY ONE -/
abbrev CO : Type := Nat × (Nat → Nat) × (Nat → Nat)
def addC (a b : Nat) (s : CO) : CO := (s.1 + 1, updF s.2.1 s.1 a, updF s.2.2 s.1 b)
def coK (a b : Nat) : Nat → CO → CO
  | 0, s => s
  | k + 1, s => addC a b (coK a b k s)
def coB (d : Nat → Nat → Nat) (a : Nat) : Nat → CO → CO
  | 0, s => s
  | n + 1, s => coK a n (d a n) (coB d a n s)
def coA (d : Nat → Nat → Nat) : Nat → CO → CO
  | 0, s => s
  | n + 1, s => coB d n 10 (coA d n s)
theorem coA_s {d : Nat → Nat → Nat} {n : Nat} {s : CO} : coA d (n + 1) s = coB d n 10 (coA d n s) := rfl
def co0 : CO := (0, fun _ => 0, fun _ => 0)
theorem coK_n {a b : Nat} {s : CO} : ∀ k, (coK a b k s).1 = s.1 + k
  | 0 => rfl
  | k + 1 => by show (coK a b k s).1 + 1 = s.1 + (k + 1); rw [coK_n k]; omega
theorem coB_n {d : Nat → Nat → Nat} {a : Nat} {s : CO} : ∀ n, (coB d a n s).1 = s.1 + sm (fun b => d a b) n
  | 0 => rfl
  | n + 1 => by
    show (coK a n (d a n) (coB d a n s)).1 = s.1 + (sm (fun b => d a b) n + d a n)
    rw [coK_n, coB_n n]; omega
theorem coA_n {d : Nat → Nat → Nat} {s : CO} : ∀ n, (coA d n s).1 = s.1 + sm (owesS d) n
  | 0 => rfl
  | n + 1 => by
    rw [coA_s, coB_n, coA_n n]
    show s.1 + sm (owesS d) n + owesS d n = s.1 + (sm (owesS d) n + owesS d n)
    omega
theorem sm_mono_n {f : Nat → Nat} {m : Nat} : ∀ n, m ≤ n → sm f m ≤ sm f n
  | 0, h => by have : m = 0 := by omega
               subst this; exact Nat.le_refl _
  | n + 1, h => by
    by_cases c : m = n + 1
    · subst c; exact Nat.le_refl _
    · have := sm_mono_n (f := f) (m := m) n (by omega)
      show sm f m ≤ sm f n + f n
      omega
/-- never more than all -/
theorem co_le {d : Nat → Nat → Nat} {a b k : Nat} (ha : a < 10) (hb : b < 10) (hk : k ≤ d a b) : (coK a b k (coB d a b (coA d a co0))).1 ≤ allS d := by
  rw [coK_n, coB_n, coA_n]
  have h1 := sm_mono_n (f := fun b => d a b) (m := b + 1) 10 (by omega)
  have h2 := sm_mono_n (f := owesS d) (m := a + 1) 10 (by omega)
  have h3 : sm (fun b => d a b) (b + 1) = sm (fun b => d a b) b + d a b := rfl
  have h4 : sm (owesS d) (a + 1) = sm (owesS d) a + owesS d a := rfl
  have h5 : owesS d a = sm (fun b => d a b) 10 := rfl
  have h6 : allS d = sm (owesS d) 10 := rfl
  show 0 + sm (owesS d) a + sm (fun b => d a b) b + k ≤ allS d
  omega
/-- who is who -/
def coW (s : CO) : Prop := ∀ i, i < s.1 → s.2.1 i < 10 ∧ s.2.2 i < 10 ∧ s.2.1 i ≠ s.2.2 i
theorem addC_W {a b : Nat} {s : CO} (h : coW s) (ha : a < 10) (hb : b < 10) (hab : a ≠ b) : coW (addC a b s) := by
  intro i hi
  show updF s.2.1 s.1 a i < 10 ∧ updF s.2.2 s.1 b i < 10 ∧ updF s.2.1 s.1 a i ≠ updF s.2.2 s.1 b i
  unfold updF
  by_cases c : i = s.1
  · rw [if_pos c, if_pos c]; exact ⟨ha, hb, hab⟩
  · rw [if_neg c, if_neg c]
    have hi : i < s.1 + 1 := hi
    exact h i (by omega)
theorem coK_W {a b : Nat} {s : CO} (h : coW s) (ha : a < 10) (hb : b < 10) : ∀ k, (k ≠ 0 → a ≠ b) → coW (coK a b k s)
  | 0, _ => h
  | k + 1, hab => addC_W (coK_W h ha hb k (fun _ => hab (by omega))) ha hb (hab (by omega))
theorem coB_W {t Y : Nat} {S : DS} (hw : DW t Y S) {a : Nat} {s : CO} (h : coW s) (ha : a < 10) : ∀ n, n ≤ 10 → coW (coB S.1 a n s)
  | 0, _ => h
  | n + 1, hn => coK_W (coB_W hw h ha n (by omega)) ha (by omega) (S.1 a n) (fun q => ((hw.1 a ha n (by omega)).2 q).1)
theorem coA_W {t Y : Nat} {S : DS} (hw : DW t Y S) {s : CO} (h : coW s) : ∀ n, n ≤ 10 → coW (coA S.1 n s)
  | 0, _ => h
  | n + 1, hn => by
    rw [coA_s]
    exact coB_W hw (coA_W hw h n (by omega)) (by omega) 10 (Nat.le_refl _)
def coins (d : Nat → Nat → Nat) : CO := coA d 10 co0
theorem coins_n (d : Nat → Nat → Nat) : (coins d).1 = allS d := by
  unfold coins
  rw [coA_n]
  show 0 + allS d = allS d
  omega
theorem coins_W {t Y : Nat} {S : DS} (hw : DW t Y S) : coW (coins S.1) := coA_W hw (fun i hi => absurd hi (Nat.not_lt_zero i)) 10 (Nat.le_refl _)
seal coA coB
section COINS
variable {B F : Nat} {G : GG}
def rCo (x _y : Nat) : Prop := x = 82 ∨ x = 83
def hasC (σ : MM) (s : CO) : Prop := ∀ i, i < s.1 → mI σ 82 i = nI (s.2.1 i) ∧ mI σ 83 i = nI (s.2.2 i)
theorem rCo_rSC (x y : Nat) (h : rCo x y) : rSC x y := by
  unfold rCo at h
  unfold rSC
  omega
theorem e_X0_takesDebts {σ : MM} (hG : GW B G) (h : CI B σ G) (hm : allS G.S.1 ≤ 12) (hF : 100000 ≤ F) : ∃ σ', g_X0_takesDebts F σ 1 = some (nI (allS G.S.1), σ') ∧ kj rCo σ σ' ∧ hasC σ' (coins G.S.1) := by
  have l := h.l
  have h9 := hG.2.2.1.b99
  unfold g_X0_takesDebts
  rw [if_pos (T1 l)]
  obtain ⟨v, s, ⟨k1, v1, c1⟩, e1⟩ := yl2 (fun f v i σ => l_X0_takesDebts_4 (fun (r1_15 : Int32) (σ14 : MM) => some (r1_15, σ14)) F 1 f v i σ) (fun v σ => some (v, σ)) (fun a v s => kj rCo σ s ∧ v = nI (coA G.S.1 a co0).1 ∧ hasC s (coA G.S.1 a co0)) 10 (by
    intro f a v s ha ⟨k1, v1, c1⟩
    subst v1
    obtain ⟨v2, s2, ⟨k2, v2e, c2⟩, e2⟩ := yl2 (fun g v i σ => l_X0_takesDebts_12 (fun (r1_13 : Int32) (σ12 : MM) => l_X0_takesDebts_4 (fun (r1_15 : Int32) (σ14 : MM) => some (r1_15, σ14)) F 1 f r1_13 ((nI a + 1)) σ12) F 1 (nI a) g v i σ) (fun v σ12 => l_X0_takesDebts_4 (fun (r1_15 : Int32) (σ14 : MM) => some (r1_15, σ14)) F 1 f v ((nI a + 1)) σ12) (fun b v s => kj rCo σ s ∧ v = nI (coB G.S.1 a b (coA G.S.1 a co0)).1 ∧ hasC s (coB G.S.1 a b (coA G.S.1 a co0))) 10 (by
      intro g b v s hb ⟨k2, v2e, c2⟩
      subst v2e
      have key : ∀ n k e s, k + n = G.S.1 a b → n < e → kj rCo σ s → hasC s (coK a b k (coB G.S.1 a b (coA G.S.1 a co0))) → ∃ s', kj rCo σ s' ∧ hasC s' (coK a b (G.S.1 a b) (coB G.S.1 a b (coA G.S.1 a co0))) ∧ l_X0_takesDebts_21 (fun (r1_11 : Int32) (σ10 : MM) => l_X0_takesDebts_12 (fun (r1_13 : Int32) (σ12 : MM) => l_X0_takesDebts_4 (fun (r1_15 : Int32) (σ14 : MM) => some (r1_15, σ14)) F 1 f r1_13 ((nI a + 1)) σ12) F 1 (nI a) g r1_11 ((nI b + 1)) σ10) F 1 (nI a) (nI b) e (nI (coK a b k (coB G.S.1 a b (coA G.S.1 a co0))).1) (nI k) s = l_X0_takesDebts_12 (fun (r1_13 : Int32) (σ12 : MM) => l_X0_takesDebts_4 (fun (r1_15 : Int32) (σ14 : MM) => some (r1_15, σ14)) F 1 f r1_13 ((nI a + 1)) σ12) F 1 (nI a) g (nI (coK a b (G.S.1 a b) (coB G.S.1 a b (coA G.S.1 a co0))).1) ((nI b + 1)) s' := by
        intro n
        induction n with
        | zero =>
          intro k e s ee he k3 c3
          obtain ⟨e, rfl⟩ : ∃ g, e = g + 1 := ⟨e - 1, by omega⟩
          have ee : k = G.S.1 a b := by omega
          have hs := h.s k3 rCo_rSC
          have ls := hs.l
          have h99 := h9 a ha b hb
          refine ⟨s, k3, by rw [← ee]; exact c3, ?_⟩
          rw [l_X0_takesDebts_21.eq_2, gP_T (T1 ls), Option.bind_some, P1_4 ls, dbP ls d5, Option.bind_some, dbO ls d5, Option.bind_some, rowP ls d5 ha, Option.bind_some, rowI ls d5 ha hb, Option.bind_some, show mI s (5 + 3 + a) b = _ from hs.2.1.1 a ha b hb, if_neg (nI_nlt (by omega) (by omega)), ← ee]
        | succ n ih =>
          intro k e s ee he k3 c3
          obtain ⟨e, rfl⟩ : ∃ g, e = g + 1 := ⟨e - 1, by omega⟩
          have hs := h.s k3 rCo_rSC
          have ls := hs.l
          have h99 := h9 a ha b hb
          have le := co_le (d := G.S.1) (k := k + 1) ha hb (by omega)
          have lt : (coK a b k (coB G.S.1 a b (coA G.S.1 a co0))).1 < 12 := by rw [coK_n] at le ⊢; omega
          obtain ⟨C, hC⟩ : ∃ C, coK a b k (coB G.S.1 a b (coA G.S.1 a co0)) = C := ⟨_, rfl⟩
          have e3 : coK a b (k + 1) (coB G.S.1 a b (coA G.S.1 a co0)) = addC a b C := by rw [← hC]; rfl
          rw [hC] at c3 lt ⊢
          have l2 : lay (wI s 82 C.1 (nI a)) := ls
          rw [l_X0_takesDebts_21.eq_2, gP_T (T1 ls), Option.bind_some, P1_4 ls, dbP ls d5, Option.bind_some, dbO ls d5, Option.bind_some, rowP ls d5 ha, Option.bind_some, rowI ls d5 ha hb, Option.bind_some, show mI s (5 + 3 + a) b = _ from hs.2.1.1 a ha b hb, if_pos (nI_lt (by omega) (by omega)), gP_T (T1 ls), Option.bind_some, P1_19 ls, sI_T (by rw [T82 ls]) (by rw [T82 ls]; exact lt) (by rw [T82 ls]; decide), Option.bind_some, gP_T (T1 l2), Option.bind_some, P1_20 l2, sI_T (by rw [T83 l2]) (by rw [T83 l2]; exact lt) (by rw [T83 l2]; decide), Option.bind_some, nI_1 C.1, nI_1 k]
          have := ih (k + 1) e (wI (wI s 82 C.1 (nI a)) 83 C.1 (nI b)) (by omega) (by omega) (k3.trans ((kj.w (Or.inl rfl)).trans (kj.w (Or.inr rfl)))) (by
            rw [e3]
            intro i hi
            have hi : i < C.1 + 1 := hi
            show _ = nI (updF C.2.1 C.1 a i) ∧ _ = nI (updF C.2.2 C.1 b i)
            unfold updF
            rw [mI_wn (show 82 ≠ 83 by decide)]
            by_cases c : i = C.1
            · subst c
              rw [if_pos rfl, if_pos rfl, mI_ws, mI_ws]; exact ⟨rfl, rfl⟩
            · rw [if_neg c, if_neg c, mI_wy c, mI_wy c, mI_wn (show 83 ≠ 82 by decide)]
              exact c3 i (by omega))
          rw [e3] at this
          exact this
      obtain ⟨s', u1, u2, u3⟩ := key (G.S.1 a b) 0 F s (by omega) (by have := h9 a ha b hb; omega) k2 c2
      (try dsimp only)
      rw [l_X0_takesDebts_12.eq_2, if_pos (ten_in hb)]
      refine ⟨_, s', ⟨u1, rfl, by rw [coB.eq_2]; exact u2⟩, ?_⟩
      rw [coB.eq_2, ← nI_1 b]
      exact u3) (by
      intro g v s _
      (try dsimp only)
      rw [l_X0_takesDebts_12.eq_2, if_neg ten_no]) (f := F) (v := nI (coA G.S.1 a co0).1) (by omega) ⟨k1, by rw [coB.eq_1], by rw [coB.eq_1]; exact c1⟩
    (try dsimp only)
    rw [l_X0_takesDebts_4.eq_2, if_pos (ten_in ha)]
    refine ⟨_, s2, ⟨k2, rfl, by rw [coA_s]; exact c2⟩, ?_⟩
    (try dsimp only at e2)
    rw [coA_s, ← nI_1 a, ← v2e]
    exact e2) (by
    intro f v s _
    (try dsimp only)
    rw [l_X0_takesDebts_4.eq_2, if_neg ten_no]) (f := F) (v := 0) (by omega) ⟨kj.refl, by rw [coA.eq_1]; rfl, by rw [coA.eq_1]; exact fun i hi => absurd hi (Nat.not_lt_zero i)⟩
  refine ⟨s, e1.trans ?_, k1, c1⟩
  rw [v1, ← coins_n]
  rfl
/-! the model's -/
def rCm (x y : Nat) : Prop := x = 112 ∨ x = 113 ∨ (x = 85 ∧ y = 50)
def hasM (τ : MM) (s : CO) : Prop := mI τ 85 50 = nI s.1 ∧ ∀ i, i < s.1 → mI τ 112 i = nI (s.2.1 i) ∧ mI τ 113 i = nI (s.2.2 i)
theorem rCm_rSM (x y : Nat) (h : rCm x y) : rSM x y := by
  unfold rCm at h
  unfold rSM
  omega
theorem e_X6_laysCoins {σ : MM} {M : Nat} (hG : GW B G) (h : MI σ G) (hM : M ≤ 12) (hF : 100000 ≤ F) : ∃ z σ', g_X6_laysCoins F σ 85 (nI M) = some (z, σ') ∧ kj rCm σ σ' ∧ ((M < allS G.S.1 ∧ z = 0) ∨ (allS G.S.1 ≤ M ∧ z = 1 ∧ hasM σ' (coins G.S.1))) := by
  have l := h.l
  have h9 := hG.2.2.1.b99
  have all9900 : allS G.S.1 ≤ 9900 := Nat.le_trans (sm_le (M := 990) 10 (fun a ha => owes_le hG.2.2.1.b99 ha)) (by decide)
  have k0 : kj rCm σ (wI σ 85 50 0) := kj.w (Or.inr (Or.inr ⟨rfl, rfl⟩))
  have h0 := h.s k0 rCm_rSM
  have l0 := h0.l
  have i50 : mI (wI σ 85 50 0) 85 50 = nI 0 := mI_ws
  unfold g_X6_laysCoins
  rw [if_pos (T85 l), pI_T (T85 l), Option.bind_some, e_X6_owedInAll l0 h0.2.1.1 (by omega), bq_some]
  by_cases hm : M < allS G.S.1
  · rw [if_pos (nI_lt hm (by omega))]
    exact ⟨0, _, rfl, k0, Or.inl ⟨hm, rfl⟩⟩
  rw [if_neg (nI_nlt (by omega) (by omega))]
  generalize wI σ 85 50 0 = s0 at k0 h0 l0 i50 ⊢
  obtain ⟨s, ⟨k1, c1⟩, e1⟩ := yl1 (l_X6_laysCoins_17 (fun (σ16 : MM) => some ((1 : Int32), σ16)) F 85) (fun σ => some ((1 : Int32), σ)) (fun a s => kj rCm σ s ∧ hasM s (coA G.S.1 a co0)) 10 (by
    intro f a s ha ⟨k1, c1⟩
    obtain ⟨s2, ⟨k2, c2⟩, e2⟩ := yl1 (l_X6_laysCoins_25 (fun (σ15 : MM) => l_X6_laysCoins_17 (fun (σ16 : MM) => some ((1 : Int32), σ16)) F 85 f ((nI a + 1)) σ15) F 85 (nI a)) (fun σ12 => l_X6_laysCoins_17 (fun (σ16 : MM) => some ((1 : Int32), σ16)) F 85 f ((nI a + 1)) σ12) (fun b s => kj rCm σ s ∧ hasM s (coB G.S.1 a b (coA G.S.1 a co0))) 10 (by
      intro g b s hb ⟨k2, c2⟩
      have key : ∀ n k e s, k + n = G.S.1 a b → n < e → kj rCm σ s → hasM s (coK a b k (coB G.S.1 a b (coA G.S.1 a co0))) → ∃ s', kj rCm σ s' ∧ hasM s' (coK a b (G.S.1 a b) (coB G.S.1 a b (coA G.S.1 a co0))) ∧ l_X6_laysCoins_34 (fun (σ14 : MM) => l_X6_laysCoins_25 (fun (σ15 : MM) => l_X6_laysCoins_17 (fun (σ16 : MM) => some ((1 : Int32), σ16)) F 85 f ((nI a + 1)) σ15) F 85 (nI a) g ((nI b + 1)) σ14) F 85 (nI a) (nI b) e (nI k) s = l_X6_laysCoins_25 (fun (σ15 : MM) => l_X6_laysCoins_17 (fun (σ16 : MM) => some ((1 : Int32), σ16)) F 85 f ((nI a + 1)) σ15) F 85 (nI a) g ((nI b + 1)) s' := by
        intro n
        induction n with
        | zero =>
          intro k e s ee he k3 c3
          obtain ⟨e, rfl⟩ : ∃ g, e = g + 1 := ⟨e - 1, by omega⟩
          have ee : k = G.S.1 a b := by omega
          have hs := h.s k3 rCm_rSM
          have ls := hs.l
          have h99 := h9 a ha b hb
          refine ⟨s, k3, by rw [← ee]; exact c3, ?_⟩
          rw [l_X6_laysCoins_34.eq_2, e_X6_debtOf ls hs.2.1.1 ha hb, bq_some, if_neg (nI_nlt (by omega) (by omega))]
        | succ n ih =>
          intro k e s ee he k3 c3
          obtain ⟨e, rfl⟩ : ∃ g, e = g + 1 := ⟨e - 1, by omega⟩
          have hs := h.s k3 rCm_rSM
          have ls := hs.l
          have h99 := h9 a ha b hb
          have le := co_le (d := G.S.1) (k := k + 1) ha hb (by omega)
          have lt : (coK a b k (coB G.S.1 a b (coA G.S.1 a co0))).1 < 12 := by rw [coK_n] at le ⊢; omega
          obtain ⟨C, hC⟩ : ∃ C, coK a b k (coB G.S.1 a b (coA G.S.1 a co0)) = C := ⟨_, rfl⟩
          have e3 : coK a b (k + 1) (coB G.S.1 a b (coA G.S.1 a co0)) = addC a b C := by rw [← hC]; rfl
          rw [hC] at c3 lt
          have l2 : lay (wI s 112 C.1 (nI a)) := ls
          have l3 : lay (wI (wI s 112 C.1 (nI a)) 113 C.1 (nI b)) := ls
          have g1 : mI (wI s 112 C.1 (nI a)) 85 50 = nI C.1 := by rw [mI_wn (by decide), c3.1]
          have g2 : mI (wI (wI s 112 C.1 (nI a)) 113 C.1 (nI b)) 85 50 = nI C.1 := by rw [mI_wn (by decide), g1]
          rw [l_X6_laysCoins_34.eq_2, e_X6_debtOf ls hs.2.1.1 ha hb, bq_some, if_pos (nI_lt (by omega) (by omega)), gP_T (T85 ls), Option.bind_some, P85_48 ls, gI_T (T85 ls), Option.bind_some, c3.1, sI_T (by rw [T112 ls]) (by rw [T112 ls]; exact lt) (by rw [T112 ls]; decide), Option.bind_some, gP_T (T85 l2), Option.bind_some, P85_49 l2, gI_T (T85 l2), Option.bind_some, g1, sI_T (by rw [T113 l2]) (by rw [T113 l2]; exact lt) (by rw [T113 l2]; decide), Option.bind_some, gI_T (T85 l3), Option.bind_some, g2, pI_T (T85 l3), Option.bind_some, nI_1 C.1, nI_1 k]
          refine ih (k + 1) e _ (by omega) (by omega) (k3.trans ((kj.w (Or.inl rfl)).trans ((kj.w (Or.inr (Or.inl rfl))).trans (kj.w (Or.inr (Or.inr ⟨rfl, rfl⟩)))))) ?_
          rw [e3]
          refine ⟨mI_ws, fun i hi => ?_⟩
          have hi : i < C.1 + 1 := hi
          show _ = nI (updF C.2.1 C.1 a i) ∧ _ = nI (updF C.2.2 C.1 b i)
          unfold updF
          rw [mI_wn (show 112 ≠ 85 by decide), mI_wn (show 113 ≠ 85 by decide), mI_wn (show 112 ≠ 113 by decide)]
          by_cases c : i = C.1
          · subst c
            rw [if_pos rfl, if_pos rfl, mI_ws, mI_ws]; exact ⟨rfl, rfl⟩
          · rw [if_neg c, if_neg c, mI_wy c, mI_wy c, mI_wn (show 113 ≠ 112 by decide)]
            exact c3.2 i (by omega)
      obtain ⟨s', u1, u2, u3⟩ := key (G.S.1 a b) 0 F s (by omega) (by have := h9 a ha b hb; omega) k2 c2
      rw [l_X6_laysCoins_25.eq_2, if_pos (ten_in hb)]
      refine ⟨s', ⟨u1, by rw [coB.eq_2]; exact u2⟩, ?_⟩
      rw [← nI_1 b]
      exact u3) (by
      intro g s _
      rw [l_X6_laysCoins_25.eq_2, if_neg ten_no]) (f := F) (by omega) ⟨k1, by rw [coB.eq_1]; exact c1⟩
    rw [l_X6_laysCoins_17.eq_2, if_pos (ten_in ha)]
    refine ⟨s2, ⟨k2, by rw [coA_s]; exact c2⟩, ?_⟩
    rw [← nI_1 a]
    exact e2) (by
    intro f s _
    rw [l_X6_laysCoins_17.eq_2, if_neg ten_no]) (f := F) (σ := s0) (by omega) ⟨k0, by rw [coA.eq_1]; exact ⟨i50, fun i hi => absurd hi (Nat.not_lt_zero i)⟩⟩
  exact ⟨1, s, e1, k1, Or.inr ⟨by omega, rfl, c1⟩⟩
end COINS
