/-! WHO CAN BE COME TO -/
def b99 (d : Nat → Nat → Nat) : Prop := ∀ a, a < 10 → ∀ b, b < 10 → d a b ≤ 99
def sub_ (s r : Nat) : Prop := ∀ i, s.testBit i = true → r.testBit i = true
theorem sub_.le {s r : Nat} (h : sub_ s r) : s ≤ r := by
  have e : s &&& r = s := by
    apply Nat.eq_of_testBit_eq
    intro i
    rw [Nat.testBit_and]
    have := h i
    cases hs : s.testBit i <;> simp_all
  rw [← e]
  exact Nat.and_le_right
def closed (d : Nat → Nat → Nat) (s : Nat) : Prop := ∀ a, a < 10 → ∀ b, b < 10 → s.testBit a = true → 0 < d a b → s.testBit b = true
def isReach (d : Nat → Nat → Nat) (p r : Nat) : Prop := r < 1024 ∧ r.testBit p = true ∧ closed d r ∧ ∀ s, s.testBit p = true → closed d s → sub_ r s
theorem isReach.uniq {d : Nat → Nat → Nat} {p r r' : Nat} (h : isReach d p r) (h' : isReach d p r') : r = r' :=
  Nat.le_antisymm (h.2.2.2 r' h'.2.1 h'.2.2.1).le (h'.2.2.2 r h.2.1 h.2.2.1).le
theorem isReach.congr {d d' : Nat → Nat → Nat} {p r : Nat} (h : isReach d p r) (hd : ∀ a, a < 10 → ∀ b, b < 10 → (0 < d a b ↔ 0 < d' a b)) : isReach d' p r :=
  ⟨h.1, h.2.1, fun a ha b hb h1 h2 => h.2.2.1 a ha b hb h1 ((hd a ha b hb).mpr h2), fun s h1 h2 => h.2.2.2 s h1 (fun a ha b hb h3 h4 => h2 a ha b hb h3 ((hd a ha b hb).mp h4))⟩
def orb (p : Nat → Bool) : Nat → Nat
  | 0 => 0
  | n + 1 => orb p n ||| (if p n = true then 2 ^ n else 0)
theorem orb_bit {p : Nat → Bool} : ∀ (n i : Nat), (orb p n).testBit i = (decide (i < n) && p i)
  | 0, i => by
    show (0 : Nat).testBit i = _
    rw [Nat.zero_testBit]
    simp
  | n + 1, i => by
    show (orb p n ||| (if p n = true then 2 ^ n else 0)).testBit i = _
    rw [Nat.testBit_or, orb_bit n i]
    by_cases hn : p n = true
    · rw [if_pos hn, bit_one]
      by_cases e : n = i
      · subst e; simp [hn]
      · have : (i < n + 1) ↔ (i < n) := by omega
        simp [e, this]
    · rw [if_neg hn, Nat.zero_testBit]
      by_cases e : i = n
      · subst e; simp [hn]
      · have : (i < n + 1) ↔ (i < n) := by omega
        simp [this]
theorem orb_lt {p : Nat → Bool} : ∀ n, orb p n < 2 ^ n
  | 0 => Nat.one_pos
  | n + 1 => by
    show orb p n ||| (if p n = true then 2 ^ n else 0) < 2 ^ (n + 1)
    refine Nat.or_lt_two_pow ?_ ?_
    · exact Nat.lt_trans (orb_lt n) (Nat.pow_lt_pow_right (by decide) (by omega))
    · split
      · exact Nat.pow_lt_pow_right (by decide) (by omega)
      · exact Nat.two_pow_pos _
/-- those one step on, through the first n -/
def nxo (d : Nat → Nat → Nat) (s : Nat) : Nat → Nat
  | 0 => s
  | a + 1 => if s.testBit a = true then nxo d s a ||| orb (fun b => decide (0 < d a b)) 10 else nxo d s a
theorem nxo_lt {d : Nat → Nat → Nat} {s : Nat} (h : s < 1024) : ∀ n, nxo d s n < 1024
  | 0 => h
  | n + 1 => by
    show (if s.testBit n = true then nxo d s n ||| orb (fun b => decide (0 < d n b)) 10 else nxo d s n) < 1024
    split
    · exact Nat.or_lt_two_pow (n := 10) (nxo_lt h n) (orb_lt 10)
    · exact nxo_lt h n
theorem nxo_bit {d : Nat → Nat → Nat} {s : Nat} : ∀ n i, (nxo d s n).testBit i = true ↔ s.testBit i = true ∨ (i < 10 ∧ ∃ a, a < n ∧ s.testBit a = true ∧ 0 < d a i)
  | 0, i => ⟨fun h => Or.inl h, fun h => h.elim id (fun ⟨_, a, ha, _⟩ => absurd ha (by omega))⟩
  | n + 1, i => by
    have ih := nxo_bit (d := d) (s := s) n i
    show (if s.testBit n = true then nxo d s n ||| orb (fun b => decide (0 < d n b)) 10 else nxo d s n).testBit i = true ↔ _
    by_cases hn : s.testBit n = true
    · rw [if_pos hn, Nat.testBit_or, orb_bit, Bool.or_eq_true, ih, Bool.and_eq_true, decide_eq_true_iff, decide_eq_true_iff]
      constructor
      · rintro ((h | ⟨h1, a, h2, h3⟩) | ⟨h1, h2⟩)
        · exact Or.inl h
        · exact Or.inr ⟨h1, a, by omega, h3⟩
        · exact Or.inr ⟨h1, n, by omega, hn, h2⟩
      · rintro (h | ⟨h1, a, h2, h3, h4⟩)
        · exact Or.inl (Or.inl h)
        · by_cases e : a = n
          · subst e; exact Or.inr ⟨h1, h4⟩
          · exact Or.inl (Or.inr ⟨h1, a, by omega, h3, h4⟩)
    · rw [if_neg hn, ih]
      constructor
      · rintro (h | ⟨h1, a, h2, h3⟩)
        · exact Or.inl h
        · exact Or.inr ⟨h1, a, by omega, h3⟩
      · rintro (h | ⟨h1, a, h2, h3, h4⟩)
        · exact Or.inl h
        · by_cases e : a = n
          · subst e; exact absurd h3 hn
          · exact Or.inr ⟨h1, a, by omega, h3, h4⟩
theorem nI_gt0 {n : Nat} (h : n < 2147483648) : 0 < nI n ↔ 0 < n := by
  constructor
  · intro q
    rcases Nat.eq_zero_or_pos n with e | e
    · subst e; exact absurd q (by decide)
    · exact e
  · intro q
    exact nI_lt (a := 0) q h
section REACH
variable {σ : MM} {Q F : Nat} {d : Nat → Nat → Nat}
theorem e_X4_next {s : Nat} (hB : isB σ Q) (hd : hasD σ Q d) (h9 : b99 d) (hs : s < 1024) (hF : 10 < F) : g_X4_next F σ Q (nI s) = some (nI (nxo d s 10), σ) := by
  obtain ⟨t1, p1, t2, hr⟩ := hB
  unfold g_X4_next
  rw [if_pos t1]
  refine ylv (l_X4_next_4 (fun (r2_12 : Int32) (σ11 : MM) => some (r2_12, σ11)) F Q (nI s)) (fun r σ => some (r, σ)) (fun a => nI (nxo d s a)) σ 10 (fun f a ha => ?_) (fun f => ?_) hF
  · simp only [l_X4_next_4, ten_in ha, if_true]
    by_cases hsa : s.testBit a = true
    · have e : nxo d s (a + 1) = nxo d s a ||| orb (fun b => decide (0 < d a b)) 10 := if_pos hsa
      rw [e, ← nI_1]
      have e0 : nI (nxo d s a) = nI (nxo d s a ||| orb (fun b => decide (0 < d a b)) 0) := by rw [show orb (fun b => decide (0 < d a b)) 0 = 0 from rfl, Nat.or_zero]
      rw [e0]
      refine ylv (l_X4_next_13 (fun (r2_10 : Int32) (σ9 : MM) => l_X4_next_4 (fun (r2_12 : Int32) (σ11 : MM) => some (r2_12, σ11)) F Q (nI s) f r2_10 ((nI a + 1)) σ9) F Q (nI s) (nI a)) (fun r σ => l_X4_next_4 (fun (r2_12 : Int32) (σ11 : MM) => some (r2_12, σ11)) F Q (nI s) f r ((nI a + 1)) σ) (fun b => nI (nxo d s a ||| orb (fun b => decide (0 < d a b)) b)) σ 10 (fun g b hb => ?_) (fun g => ?_) hF
      · simp only [l_X4_next_13, ten_in hb, if_true, e_has (Nat.lt_trans hs (by decide)) (Nat.lt_trans ha (by decide)), hsa, gI_T, gP_T, pI_T, pP_T, pZ_T, aI_T, aP_T, sI_T, sB_T, Option.bind_some, bq_some, jn_eq, nw_eq, mT_wI, mP_wI, mN_wI, Nat.reduceLT, t1, p1, t2, ha, hb, (hr a ha).1, (hr a ha).2, hd a ha b hb, nI_gt0 (Nat.lt_of_le_of_lt (h9 a ha b hb) (by decide)), nI_1]
        rw [if_neg (by decide)]
        show _ = l_X4_next_13 _ F Q (nI s) (nI a) g (nI (nxo d s a ||| (orb (fun b => decide (0 < d a b)) b ||| (if decide (0 < d a b) = true then 2 ^ b else 0)))) (nI (b + 1)) σ
        by_cases h0 : 0 < d a b
        · rw [if_pos h0, if_pos (decide_eq_true h0), bx_one (Nat.lt_trans hb (by decide)), bx_or, Nat.or_assoc]
        · rw [if_neg h0, if_neg (by simp only [h0, decide_false]; decide), show (0 : Int32) = nI 0 from rfl, bx_or, Nat.or_assoc]
      · simp only [l_X4_next_13, ten_no, if_false]
    · have e : nxo d s (a + 1) = nxo d s a := if_neg hsa
      obtain ⟨g, rfl⟩ : ∃ g, F = g + 1 := ⟨F - 1, by omega⟩
      have c0 : (0 : Int32) < 10 := by decide
      simp only [l_X4_next_13, c0, if_true, e_has (Nat.lt_trans hs (by decide)) (Nat.lt_trans ha (by decide)), hsa, gI_T, gP_T, pI_T, pP_T, pZ_T, aI_T, aP_T, sI_T, sB_T, Option.bind_some, bq_some, jn_eq, nw_eq, mT_wI, mP_wI, mN_wI, Nat.reduceLT, e, nI_1]
      rfl
  · simp only [l_X4_next_4, ten_no, if_false]
end REACH
