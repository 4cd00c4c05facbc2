seal coA coB
/-! DEBTS TURNED ROUND -/
def sgS (s k : Nat) : Int32 := if s.testBit k = true then -1 else 1
def evS (C : CO) (s p : Nat) : Nat → Int32
  | 0 => 0
  | k + 1 => evS C s p k + (if C.2.2 k = p then sgS s k else if C.2.1 k = p then - sgS s k else 0)
def evL (C : CO) (s : Nat) : Nat → Nat → Bool
  | 0, _ => true
  | m + 1, p => decide (evS C s p C.1 = 0) && evL C s m (p + 1)
def turnS (C : CO) : Nat → Nat
  | 0 => 0
  | s + 1 => if (turnS C s = 0 ∨ pop s < pop (turnS C s - 1)) ∧ evL C s 10 0 = true then s + 1 else turnS C s
theorem turnS_le (C : CO) : ∀ s, turnS C s ≤ s
  | 0 => Nat.le_refl 0
  | s + 1 => by
    have ih := turnS_le C s
    show (if (turnS C s = 0 ∨ pop s < pop (turnS C s - 1)) ∧ evL C s 10 0 = true then s + 1 else turnS C s) ≤ s + 1
    split <;> omega
section TURNED
variable {B F : Nat} {G : GG}
theorem e_X0_isEvenBy {σ : MM} {C : CO} {s : Nat} (l : lay σ) (hC : hasC σ C) (hw : coW C) (hn : C.1 ≤ 12) (hs : s < 2147483648) (hF : 100000 ≤ F) : g_X0_isEvenBy F σ 1 (nI s) (nI C.1) = some (if evL C s 10 0 = true then 1 else 0, σ) := by
  unfold g_X0_isEvenBy
  rw [if_pos (T1 l)]
  -- one's sum
  have sum : ∀ (K : Int32 → MM → Option (Int32 × MM)) p, p < 10 → l_X0_isEvenBy_14 K F 1 (nI s) (nI C.1) (nI p) F 0 0 σ = K (evS C s p C.1) σ := by
    intro K p hp
    refine ylv (fun f v i σ => l_X0_isEvenBy_14 K F 1 (nI s) (nI C.1) (nI p) f v i σ) K (evS C s p) σ C.1 (fun f i hi => ?_) (fun f => ?_) (f := F) (by omega)
    · (try dsimp only)
      obtain ⟨c1, c2⟩ := hC i hi
      obtain ⟨b1, b2, b3⟩ := hw i hi
      have i12 : i < 12 := by omega
      have g2 : aI σ 83 20 (nI i) = some (nI (C.2.2 i)) := by rw [aI_T (by rw [T83 l]) (by rw [T83 l]; exact i12) (by rw [T83 l]; decide), c2]
      have g1 : aI σ 82 20 (nI i) = some (nI (C.2.1 i)) := by rw [aI_T (by rw [T82 l]) (by rw [T82 l]; exact i12) (by rw [T82 l]; decide), c1]
      have e : evS C s p (i + 1) = evS C s p i + (if C.2.2 i = p then sgS s i else if C.2.1 i = p then - sgS s i else 0) := rfl
      rw [l_X0_isEvenBy_14.eq_2, if_pos (nI_lt hi (by omega)), gP_T (T1 l), Option.bind_some, P1_20 l, g2, Option.bind_some, e, nI_1]
      dsimp only [jn]
      rw [e_has (by omega) (by omega), gP_T (T1 l), Option.bind_some, P1_19 l, g1, Option.bind_some]
      simp only [bq_some]
      unfold sgS
      by_cases u1 : C.2.2 i = p
      · rw [if_pos (show nI (C.2.2 i) = nI p by rw [u1]), if_pos u1]
        by_cases u2 : s.testBit i = true
        · rw [if_pos u2, if_neg (show ¬ (1 : Int32) = 0 by decide), if_pos u2]; rfl
        · rw [if_neg u2, if_pos rfl, if_neg u2]; rfl
      · rw [if_neg (show ¬ nI (C.2.2 i) = nI p from fun q => u1 ((nI_eq (by omega) (by omega)).mp q)), if_neg u1]
        by_cases u3 : C.2.1 i = p
        · rw [if_pos (show nI (C.2.1 i) = nI p by rw [u3]), if_pos u3]
          by_cases u2 : s.testBit i = true
          · rw [if_pos u2, if_neg (show ¬ (1 : Int32) = 0 by decide), if_pos u2]; rfl
          · rw [if_neg u2, if_pos rfl, if_neg u2]; rfl
        · rw [if_neg (show ¬ nI (C.2.1 i) = nI p from fun q => u3 ((nI_eq (by omega) (by omega)).mp q)), if_neg u3]
          by_cases u2 : s.testBit i = true
          · rw [if_pos u2, if_neg (show ¬ (1 : Int32) = 0 by decide)]; rfl
          · rw [if_neg u2, if_pos rfl]; rfl
    · (try dsimp only)
      rw [l_X0_isEvenBy_14.eq_2, if_neg (nI_nlt (Nat.le_refl _) (by omega))]
  have key : ∀ m p f, p + m = 10 → m < f → l_X0_isEvenBy_2 (fun (σ15 : MM) => some ((1 : Int32), σ15)) F 1 (nI s) (nI C.1) f (nI p) σ = some (if evL C s m p = true then 1 else 0, σ) := by
    intro m
    induction m with
    | zero =>
      intro p f e hf
      obtain ⟨f, rfl⟩ : ∃ g, f = g + 1 := ⟨f - 1, by omega⟩
      have e : p = 10 := by omega
      subst e
      rw [l_X0_isEvenBy_2.eq_2, if_neg ten_no]
      rfl
    | succ m ih =>
      intro p f e hf
      obtain ⟨f, rfl⟩ : ∃ g, f = g + 1 := ⟨f - 1, by omega⟩
      rw [l_X0_isEvenBy_2.eq_2, if_pos (ten_in (by omega)), sum _ p (by omega)]
      have e2 : evL C s (m + 1) p = (decide (evS C s p C.1 = 0) && evL C s m (p + 1)) := rfl
      rw [e2]
      by_cases c : evS C s p C.1 = 0
      · rw [if_pos c, decide_eq_true c, Bool.true_and, nI_1]
        exact ih (p + 1) f (by omega) (by omega)
      · rw [if_neg c, decide_eq_false c, Bool.false_and]
        rfl
  exact key 10 0 F (by omega) (by omega)
theorem e_X6_isEven {σ : MM} {C : CO} {s : Nat} (l : lay σ) (hC : hasM σ C) (hw : coW C) (hn : C.1 ≤ 12) (hs : s < 2147483648) (hF : 100000 ≤ F) : g_X6_isEven F σ 85 (nI s) = some (if evL C s 10 0 = true then 1 else 0, σ) := by
  unfold g_X6_isEven
  rw [if_pos (T85 l)]
  have sum : ∀ (K : Int32 → MM → Option (Int32 × MM)) p, p < 10 → l_X6_isEven_13 K F 85 (nI s) (nI p) F 0 0 σ = K (evS C s p C.1) σ := by
    intro K p hp
    refine ylv (fun f v i σ => l_X6_isEven_13 K F 85 (nI s) (nI p) f v i σ) K (evS C s p) σ C.1 (fun f i hi => ?_) (fun f => ?_) (f := F) (by omega)
    · (try dsimp only)
      obtain ⟨c1, c2⟩ := hC.2 i hi
      obtain ⟨b1, b2, b3⟩ := hw i hi
      have i12 : i < 12 := by omega
      have g2 : aI σ 113 20 (nI i) = some (nI (C.2.2 i)) := by rw [aI_T (by rw [T113 l]) (by rw [T113 l]; exact i12) (by rw [T113 l]; decide), c2]
      have g1 : aI σ 112 20 (nI i) = some (nI (C.2.1 i)) := by rw [aI_T (by rw [T112 l]) (by rw [T112 l]; exact i12) (by rw [T112 l]; decide), c1]
      have e : evS C s p (i + 1) = evS C s p i + (if C.2.2 i = p then sgS s i else if C.2.1 i = p then - sgS s i else 0) := rfl
      rw [l_X6_isEven_13.eq_2, gI_T (T85 l), Option.bind_some, hC.1, if_pos (nI_lt hi (by omega)), e_hasM (by omega) (by omega), bq_some, e, nI_1]
      dsimp only [jn]
      rw [gP_T (T85 l), Option.bind_some, P85_49 l, g2, gP_T (T85 l), P85_48 l]
      simp only [Option.bind_some, g2, g1]
      unfold sgS
      by_cases u1 : C.2.2 i = p
      · have u3 : ¬ C.2.1 i = p := fun q => b3 (q.trans u1.symm)
        rw [if_pos u1]
        by_cases u2 : s.testBit i = true
        · rw [if_pos u2, if_neg (show ¬ (1 : Int32) = 0 by decide), if_pos (show nI (C.2.2 i) = nI p by rw [u1]), if_neg (show ¬ nI (C.2.1 i) = nI p from fun q => u3 ((nI_eq (by omega) (by omega)).mp q)), if_pos u2]
        · rw [if_neg u2, if_pos rfl, if_pos (show nI (C.2.2 i) = nI p by rw [u1]), if_neg (show ¬ nI (C.2.1 i) = nI p from fun q => u3 ((nI_eq (by omega) (by omega)).mp q)), if_neg u2]
      · rw [if_neg u1]
        by_cases u3 : C.2.1 i = p
        · rw [if_pos u3]
          by_cases u2 : s.testBit i = true
          · rw [if_pos u2, if_neg (show ¬ (1 : Int32) = 0 by decide), if_neg (show ¬ nI (C.2.2 i) = nI p from fun q => u1 ((nI_eq (by omega) (by omega)).mp q)), if_pos (show nI (C.2.1 i) = nI p by rw [u3]), if_pos u2, Int32.sub_eq_add_neg]
          · rw [if_neg u2, if_pos rfl, if_neg (show ¬ nI (C.2.2 i) = nI p from fun q => u1 ((nI_eq (by omega) (by omega)).mp q)), if_pos (show nI (C.2.1 i) = nI p by rw [u3]), if_neg u2, Int32.sub_eq_add_neg]
        · rw [if_neg u3, Int32.add_zero]
          by_cases u2 : s.testBit i = true
          · rw [if_pos u2, if_neg (show ¬ (1 : Int32) = 0 by decide), if_neg (show ¬ nI (C.2.2 i) = nI p from fun q => u1 ((nI_eq (by omega) (by omega)).mp q)), if_neg (show ¬ nI (C.2.1 i) = nI p from fun q => u3 ((nI_eq (by omega) (by omega)).mp q))]
          · rw [if_neg u2, if_pos rfl, if_neg (show ¬ nI (C.2.2 i) = nI p from fun q => u1 ((nI_eq (by omega) (by omega)).mp q)), if_neg (show ¬ nI (C.2.1 i) = nI p from fun q => u3 ((nI_eq (by omega) (by omega)).mp q))]
    · (try dsimp only)
      rw [l_X6_isEven_13.eq_2, gI_T (T85 l), Option.bind_some, hC.1, if_neg (nI_nlt (Nat.le_refl _) (by omega))]
  have key : ∀ m p f, p + m = 10 → m < f → l_X6_isEven_2 (fun (σ15 : MM) => some ((1 : Int32), σ15)) F 85 (nI s) f (nI p) σ = some (if evL C s m p = true then 1 else 0, σ) := by
    intro m
    induction m with
    | zero =>
      intro p f e hf
      obtain ⟨f, rfl⟩ : ∃ g, f = g + 1 := ⟨f - 1, by omega⟩
      have e : p = 10 := by omega
      subst e
      rw [l_X6_isEven_2.eq_2, if_neg ten_no]
      rfl
    | succ m ih =>
      intro p f e hf
      obtain ⟨f, rfl⟩ : ∃ g, f = g + 1 := ⟨f - 1, by omega⟩
      rw [l_X6_isEven_2.eq_2, if_pos (ten_in (by omega)), sum _ p (by omega)]
      have e2 : evL C s (m + 1) p = (decide (evS C s p C.1 = 0) && evL C s m (p + 1)) := rfl
      rw [e2]
      by_cases c : evS C s p C.1 = 0
      · rw [if_pos c, decide_eq_true c, Bool.true_and, nI_1]
        exact ih (p + 1) f (by omega) (by omega)
      · rw [if_neg c, decide_eq_false c, Bool.false_and]
        rfl
  exact key 10 0 F (by omega) (by omega)
def bvC (b : Nat) : Int32 := if b = 0 then -1 else nI (b - 1)
def bvM (b : Nat) : Int32 := if b = 0 then -2 else nI (b - 1)
theorem nI_neN {k : Nat} (h : k < 2147483648) : ¬ nI k = -1 := fun q => by
  have := congrArg Int32.toInt q
  rw [nI_toInt h] at this
  have e : (-1 : Int32).toInt = -1 := rfl
  omega
theorem turn_C {σ : MM} {C : CO} (l : lay σ) (hC : hasC σ C) (hw : coW C) (hn : C.1 ≤ 12) (hF : 100000 ≤ F) (x1 : Int32) (K : Int32 → MM → Option (Int32 × MM)) : l_X0_turned_38 K F 1 x1 (nI C.1) F (-1) 0 σ = K (bvC (turnS C (2 ^ C.1))) σ := by
  have p2 : 2 ^ C.1 ≤ 4096 := (Nat.pow_le_pow_right (by decide) hn : 2 ^ _ ≤ 2 ^ 12)
  refine ylv (fun f v i σ => l_X0_turned_38 K F 1 x1 (nI C.1) f v i σ) K (fun s => bvC (turnS C s)) σ (2 ^ C.1) (fun f i hi => ?_) (fun f => ?_) (f := F) (by omega)
  · (try dsimp only)
    have le := turnS_le C i
    have eT : ((turnS C i = 0 ∨ pop i < pop (turnS C i - 1)) ∧ evL C i 10 0 = true) → turnS C (i + 1) = i + 1 := fun q => if_pos q
    have eF : ¬ ((turnS C i = 0 ∨ pop i < pop (turnS C i - 1)) ∧ evL C i 10 0 = true) → turnS C (i + 1) = turnS C i := fun q => if_neg q
    have eN : bvC (i + 1) = nI i := if_neg (by omega)
    have ev := e_X0_isEvenBy (F := F) (s := i) l hC hw hn (by omega) hF
    rw [l_X0_turned_38.eq_2, bx_one (by omega), if_pos (nI_lt hi (by omega)), nI_1]
    by_cases c : turnS C i = 0
    · have e0 : bvC (turnS C i) = -1 := if_pos c
      rw [e0, if_pos rfl, ev, bq_some]
      by_cases c2 : evL C i 10 0 = true
      · rw [if_pos c2, if_neg (by decide), eT ⟨Or.inl c, c2⟩, eN]
      · rw [if_neg c2, if_pos rfl, eF (fun q => c2 q.2), e0]
    · have e0 : bvC (turnS C i) = nI (turnS C i - 1) := if_neg c
      rw [e0, if_neg (nI_neN (by omega)), bc_eq (by omega), bq_some, bc_eq (by omega), bq_some, ev, bq_some]
      have b1 := pop_le i
      have b2 := pop_le (turnS C i - 1)
      by_cases c1 : pop i < pop (turnS C i - 1)
      · rw [if_pos (nI_lt c1 (by omega))]
        by_cases c2 : evL C i 10 0 = true
        · rw [if_pos c2, if_neg (by decide), eT ⟨Or.inr c1, c2⟩, eN]
        · rw [if_neg c2, if_pos rfl, eF (fun q => c2 q.2), e0]
      · rw [if_neg (nI_nlt (by omega) (by omega)), eF (fun q => q.1.elim c c1), e0]
  · (try dsimp only)
    rw [l_X0_turned_38.eq_2, bx_one (by omega), if_neg (nI_nlt (Nat.le_refl _) (by omega))]
theorem turn_M {σ : MM} {C : CO} (l : lay σ) (hC : hasM σ C) (hw : coW C) (hn : C.1 ≤ 12) (hF : 100000 ≤ F) (x1 : Int32) (K : Int32 → MM → Option (Int32 × MM)) : l_X6_turned_28 K F 85 x1 F (-2) 0 σ = K (bvM (turnS C (2 ^ C.1))) σ := by
  have p2 : 2 ^ C.1 ≤ 4096 := (Nat.pow_le_pow_right (by decide) hn : 2 ^ _ ≤ 2 ^ 12)
  refine ylv (fun f v i σ => l_X6_turned_28 K F 85 x1 f v i σ) K (fun s => bvM (turnS C s)) σ (2 ^ C.1) (fun f i hi => ?_) (fun f => ?_) (f := F) (by omega)
  · (try dsimp only)
    have le := turnS_le C i
    have eT : ((turnS C i = 0 ∨ pop i < pop (turnS C i - 1)) ∧ evL C i 10 0 = true) → turnS C (i + 1) = i + 1 := fun q => if_pos q
    have eF : ¬ ((turnS C i = 0 ∨ pop i < pop (turnS C i - 1)) ∧ evL C i 10 0 = true) → turnS C (i + 1) = turnS C i := fun q => if_neg q
    have eN : bvM (i + 1) = nI i := if_neg (by omega)
    have ev := e_X6_isEven (F := F) (s := i) l hC hw hn (by omega) hF
    rw [l_X6_turned_28.eq_2, gI_T (T85 l), Option.bind_some, hC.1, bx_one (by omega), if_pos (nI_lt hi (by omega)), nI_1]
    by_cases c : turnS C i = 0
    · have e0 : bvM (turnS C i) = -2 := if_pos c
      rw [e0, if_pos rfl, ev, bq_some]
      by_cases c2 : evL C i 10 0 = true
      · rw [if_pos c2, if_neg (by decide), eT ⟨Or.inl c, c2⟩, eN]
      · rw [if_neg c2, if_pos rfl, eF (fun q => c2 q.2), e0]
    · have e0 : bvM (turnS C i) = nI (turnS C i - 1) := if_neg c
      rw [e0, if_neg (nI_ne2 (by omega)), bits_eq (by omega) (by omega), bq_some, bits_eq (by omega) (by omega), bq_some, ev, bq_some]
      have b1 := pop_le i
      have b2 := pop_le (turnS C i - 1)
      by_cases c1 : pop i < pop (turnS C i - 1)
      · rw [if_pos (nI_lt c1 (by omega))]
        by_cases c2 : evL C i 10 0 = true
        · rw [if_pos c2, if_neg (by decide), eT ⟨Or.inr c1, c2⟩, eN]
        · rw [if_neg c2, if_pos rfl, eF (fun q => c2 q.2), e0]
      · rw [if_neg (nI_nlt (by omega) (by omega)), eF (fun q => q.1.elim c c1), e0]
  · (try dsimp only)
    rw [l_X6_turned_28.eq_2, gI_T (T85 l), Option.bind_some, hC.1, bx_one (by omega), if_neg (nI_nlt (Nat.le_refl _) (by omega))]
theorem call_turned (hG : GW B G) (hF : 100000 ≤ F) (a : Int32) : Call B G (fun σ => g_X0_turned F σ 1 a) (fun τ => g_X6_turned F τ 85 a) := by
  unfold g_X0_turned g_X6_turned
  have all9900 : allS G.S.1 ≤ 9900 := Nat.le_trans (sm_le (M := 990) 10 (fun a ha => owes_le hG.2.2.1.b99 ha)) (by decide)
  rcases in_is (x := a) (n := 2) (by decide) (by decide) with ⟨k, hk, rfl⟩ | ⟨n1, n2⟩
  · by_cases hm : allS G.S.1 ≤ 12
    · have hn : (coins G.S.1).1 ≤ 12 := by rw [coins_n]; exact hm
      have hw := coins_W hG.2.2.1
      have le := turnS_le (coins G.S.1) (2 ^ (coins G.S.1).1)
      have p2 : 2 ^ (coins G.S.1).1 ≤ 4096 := (Nat.pow_le_pow_right (by decide) hn : 2 ^ _ ≤ 2 ^ 12)
      refine call_same hG (if turnS (coins G.S.1) (2 ^ (coins G.S.1).1) = 0 then -2 else if k = 0 then nI (pop (turnS (coins G.S.1) (2 ^ (coins G.S.1).1) - 1)) else nI (turnS (coins G.S.1) (2 ^ (coins G.S.1).1) - 1)) (fun σ h => ?_) (fun τ h => ?_)
      · obtain ⟨s, e, k1, c⟩ := e_X0_takesDebts (F := F) hG h hm hF
        have ls := k1.ly h.l
        refine ⟨s, ?_, k1.mono rCo_rSC⟩
        (try dsimp only)
        rw [if_pos (T1 h.l), show (2 : Int32) = nI 2 from rfl, in_yes hk (by decide), bq_some, if_neg (by decide), gP_T (T1 h.l), Option.bind_some, P1_4 h.l, dbP h.l d5, Option.bind_some, e_X4_all (d5.B h.l) h.2.1.1 (by omega), bq_some, if_neg (show ¬ 12 < nI (allS G.S.1) from nI_nlt (a := 12) hm (by decide)), e, bq_some, ← coins_n, turn_C ls c hw hn hF]
        (try dsimp only)
        unfold bvC
        by_cases c0 : turnS (coins G.S.1) (2 ^ (coins G.S.1).1) = 0
        · rw [if_pos c0, if_pos rfl, if_pos c0]
        · rw [if_neg c0, if_neg (nI_neN (by omega)), if_neg c0]
          by_cases ck : k = 0
          · rw [if_pos (by rw [ck]; rfl), bc_eq (by omega), bq_some, if_pos ck]
          · rw [if_neg (nI_ne0 (by omega) (by omega)), if_neg ck]
      · obtain ⟨z, s, e, k1, hz⟩ := e_X6_laysCoins (F := F) (M := 12) hG h (Nat.le_refl _) hF
        have ls := k1.ly h.l
        refine ⟨s, ?_, k1.mono rCm_rSM⟩
        rcases hz with ⟨q, -⟩ | ⟨-, rfl, c⟩
        · omega
        · (try dsimp only)
          rw [if_pos (T85 h.l), show g_X6_in F τ (nI k) 0 1 = _ from inM_yes (m := 1) (by omega) (by decide), bq_some, if_neg (by decide), show (12 : Int32) = nI 12 from rfl, e, bq_some, if_neg (by decide), turn_M ls c hw hn hF]
          (try dsimp only)
          unfold bvM
          by_cases c0 : turnS (coins G.S.1) (2 ^ (coins G.S.1).1) = 0
          · rw [if_pos c0, if_pos c0]
            by_cases ck : k = 1
            · rw [if_pos (by rw [ck]; rfl)]
            · rw [if_neg (show ¬ nI k = 1 from fun q => ck ((nI_eq (b := 1) (by omega) (by decide)).mp q)), if_pos rfl]
          · rw [if_neg c0, if_neg c0]
            by_cases ck : k = 1
            · rw [if_pos (by rw [ck]; rfl), if_neg (by omega)]
            · rw [if_neg (show ¬ nI k = 1 from fun q => ck ((nI_eq (b := 1) (by omega) (by decide)).mp q)), if_neg (nI_ne2 (by omega)), bits_eq (by omega) (by omega), bq_some, if_pos (by omega)]
    · refine call_same hG (-3) (fun σ h => ⟨σ, ?_, kj.refl⟩) (fun τ h => ?_)
      · (try dsimp only)
        rw [if_pos (T1 h.l), show (2 : Int32) = nI 2 from rfl, in_yes hk (by decide), bq_some, if_neg (by decide), gP_T (T1 h.l), Option.bind_some, P1_4 h.l, dbP h.l d5, Option.bind_some, e_X4_all (d5.B h.l) h.2.1.1 (by omega), bq_some, if_pos (show 12 < nI (allS G.S.1) from nI_lt (a := 12) (by omega) (by omega))]
      · obtain ⟨z, s, e, k1, hz⟩ := e_X6_laysCoins (F := F) (M := 12) hG h (Nat.le_refl _) hF
        refine ⟨s, ?_, k1.mono rCm_rSM⟩
        rcases hz with ⟨-, rfl⟩ | ⟨q, -⟩
        · (try dsimp only)
          rw [if_pos (T85 h.l), show g_X6_in F τ (nI k) 0 1 = _ from inM_yes (m := 1) (by omega) (by decide), bq_some, if_neg (by decide), show (12 : Int32) = nI 12 from rfl, e, bq_some, if_pos rfl]
        · omega
  · refine call_look hG (-1) (fun σ h => ?_) (fun τ h => ?_)
    · (try dsimp only)
      rw [if_pos (T1 h.l), show g_X0_in F σ a 2 = _ from n1 F σ, bq_some, if_pos rfl]
    · (try dsimp only)
      rw [if_pos (T85 h.l), show g_X6_in F τ a 0 1 = _ from n2 F τ, bq_some, if_pos rfl]
end TURNED
