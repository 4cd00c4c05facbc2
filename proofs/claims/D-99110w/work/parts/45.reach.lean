/-! WHO CAN BE COME TO -/
def b99 (d : Nat → Nat → Nat) : Prop := ∀ a, a < 10 → ∀ b, b < 10 → d a b ≤ 99
def sub_ (s r : Nat) : Prop := ∀ i, s.testBit i = true → r.testBit i = true
theorem sub_.le {s r : Nat} (h : sub_ s r) : s ≤ r := by
  have e : s &&& r = s := by
    apply Nat.eq_of_testBit_eq
    intro i
    rw [Nat.testBit_and]
    have := h i
    cases hs : s.testBit i <;> simp_all
  rw [← e]
  exact Nat.and_le_right
def closed (d : Nat → Nat → Nat) (s : Nat) : Prop := ∀ a, a < 10 → ∀ b, b < 10 → s.testBit a = true → 0 < d a b → s.testBit b = true
def isReach (d : Nat → Nat → Nat) (p r : Nat) : Prop := r < 1024 ∧ r.testBit p = true ∧ closed d r ∧ ∀ s, s.testBit p = true → closed d s → sub_ r s
theorem isReach.uniq {d : Nat → Nat → Nat} {p r r' : Nat} (h : isReach d p r) (h' : isReach d p r') : r = r' :=
  Nat.le_antisymm (h.2.2.2 r' h'.2.1 h'.2.2.1).le (h'.2.2.2 r h.2.1 h.2.2.1).le
theorem isReach.congr {d d' : Nat → Nat → Nat} {p r : Nat} (h : isReach d p r) (hd : ∀ a, a < 10 → ∀ b, b < 10 → (0 < d a b ↔ 0 < d' a b)) : isReach d' p r :=
  ⟨h.1, h.2.1, fun a ha b hb h1 h2 => h.2.2.1 a ha b hb h1 ((hd a ha b hb).mpr h2), fun s h1 h2 => h.2.2.2 s h1 (fun a ha b hb h3 h4 => h2 a ha b hb h3 ((hd a ha b hb).mp h4))⟩
def orb (p : Nat → Bool) : Nat → Nat
  | 0 => 0
  | n + 1 => orb p n ||| (if p n = true then 2 ^ n else 0)
theorem orb_bit {p : Nat → Bool} : ∀ (n i : Nat), (orb p n).testBit i = (decide (i < n) && p i)
  | 0, i => by
    show (0 : Nat).testBit i = _
    rw [Nat.zero_testBit]
    simp
  | n + 1, i => by
    show (orb p n ||| (if p n = true then 2 ^ n else 0)).testBit i = _
    rw [Nat.testBit_or, orb_bit n i]
    by_cases hn : p n = true
    · rw [if_pos hn, bit_one]
      by_cases e : n = i
      · subst e; simp [hn]
      · have : (i < n + 1) ↔ (i < n) := by omega
        simp [e, this]
    · rw [if_neg hn, Nat.zero_testBit]
      by_cases e : i = n
      · subst e; simp [hn]
      · have : (i < n + 1) ↔ (i < n) := by omega
        simp [this]
theorem orb_lt {p : Nat → Bool} : ∀ n, orb p n < 2 ^ n
  | 0 => Nat.one_pos
  | n + 1 => by
    show orb p n ||| (if p n = true then 2 ^ n else 0) < 2 ^ (n + 1)
    refine Nat.or_lt_two_pow ?_ ?_
    · exact Nat.lt_trans (orb_lt n) (Nat.pow_lt_pow_right (by decide) (by omega))
    · split
      · exact Nat.pow_lt_pow_right (by decide) (by omega)
      · exact Nat.two_pow_pos _
/-- those one step on, through the first n -/
def nxo (d : Nat → Nat → Nat) (s : Nat) : Nat → Nat
  | 0 => s
  | a + 1 => if s.testBit a = true then nxo d s a ||| orb (fun b => decide (0 < d a b)) 10 else nxo d s a
theorem nxo_lt {d : Nat → Nat → Nat} {s : Nat} (h : s < 1024) : ∀ n, nxo d s n < 1024
  | 0 => h
  | n + 1 => by
    show (if s.testBit n = true then nxo d s n ||| orb (fun b => decide (0 < d n b)) 10 else nxo d s n) < 1024
    split
    · exact Nat.or_lt_two_pow (n := 10) (nxo_lt h n) (orb_lt 10)
    · exact nxo_lt h n
theorem nxo_bit {d : Nat → Nat → Nat} {s : Nat} : ∀ n i, (nxo d s n).testBit i = true ↔ s.testBit i = true ∨ (i < 10 ∧ ∃ a, a < n ∧ s.testBit a = true ∧ 0 < d a i)
  | 0, i => ⟨fun h => Or.inl h, fun h => h.elim id (fun ⟨_, a, ha, _⟩ => absurd ha (by omega))⟩
  | n + 1, i => by
    have ih := nxo_bit (d := d) (s := s) n i
    show (if s.testBit n = true then nxo d s n ||| orb (fun b => decide (0 < d n b)) 10 else nxo d s n).testBit i = true ↔ _
    by_cases hn : s.testBit n = true
    · rw [if_pos hn, Nat.testBit_or, orb_bit, Bool.or_eq_true, ih, Bool.and_eq_true, decide_eq_true_iff, decide_eq_true_iff]
      constructor
      · rintro ((h | ⟨h1, a, h2, h3⟩) | ⟨h1, h2⟩)
        · exact Or.inl h
        · exact Or.inr ⟨h1, a, by omega, h3⟩
        · exact Or.inr ⟨h1, n, by omega, hn, h2⟩
      · rintro (h | ⟨h1, a, h2, h3, h4⟩)
        · exact Or.inl (Or.inl h)
        · by_cases e : a = n
          · subst e; exact Or.inr ⟨h1, h4⟩
          · exact Or.inl (Or.inr ⟨h1, a, by omega, h3, h4⟩)
    · rw [if_neg hn, ih]
      constructor
      · rintro (h | ⟨h1, a, h2, h3⟩)
        · exact Or.inl h
        · exact Or.inr ⟨h1, a, by omega, h3⟩
      · rintro (h | ⟨h1, a, h2, h3, h4⟩)
        · exact Or.inl h
        · by_cases e : a = n
          · subst e; exact absurd h3 hn
          · exact Or.inr ⟨h1, a, by omega, h3, h4⟩
theorem nI_gt0 {n : Nat} (h : n < 2147483648) : 0 < nI n ↔ 0 < n := by
  constructor
  · intro q
    rcases Nat.eq_zero_or_pos n with e | e
    · subst e; exact absurd q (by decide)
    · exact e
  · intro q
    exact nI_lt (a := 0) q h
section REACH
variable {σ : MM} {Q F : Nat} {d : Nat → Nat → Nat}
theorem e_X4_next {s : Nat} (hB : isB σ Q) (hd : hasD σ Q d) (h9 : b99 d) (hs : s < 1024) (hF : 10 < F) : g_X4_next F σ Q (nI s) = some (nI (nxo d s 10), σ) := by
  obtain ⟨t1, p1, t2, hr⟩ := hB
  unfold g_X4_next
  rw [if_pos t1]
  refine ylv (l_X4_next_4 (fun (r2_12 : Int32) (σ11 : MM) => some (r2_12, σ11)) F Q (nI s)) (fun r σ => some (r, σ)) (fun a => nI (nxo d s a)) σ 10 (fun f a ha => ?_) (fun f => ?_) hF
  · simp only [l_X4_next_4, ten_in ha, if_true]
    by_cases hsa : s.testBit a = true
    · have e : nxo d s (a + 1) = nxo d s a ||| orb (fun b => decide (0 < d a b)) 10 := if_pos hsa
      rw [e, ← nI_1]
      have e0 : nI (nxo d s a) = nI (nxo d s a ||| orb (fun b => decide (0 < d a b)) 0) := by rw [show orb (fun b => decide (0 < d a b)) 0 = 0 from rfl, Nat.or_zero]
      rw [e0]
      refine ylv (l_X4_next_13 (fun (r2_10 : Int32) (σ9 : MM) => l_X4_next_4 (fun (r2_12 : Int32) (σ11 : MM) => some (r2_12, σ11)) F Q (nI s) f r2_10 ((nI a + 1)) σ9) F Q (nI s) (nI a)) (fun r σ => l_X4_next_4 (fun (r2_12 : Int32) (σ11 : MM) => some (r2_12, σ11)) F Q (nI s) f r ((nI a + 1)) σ) (fun b => nI (nxo d s a ||| orb (fun b => decide (0 < d a b)) b)) σ 10 (fun g b hb => ?_) (fun g => ?_) hF
      · simp only [l_X4_next_13, ten_in hb, if_true, e_has (Nat.lt_trans hs (by decide)) (Nat.lt_trans ha (by decide)), hsa, gI_T, gP_T, pI_T, pP_T, pZ_T, aI_T, aP_T, sI_T, sB_T, Option.bind_some, bq_some, jn_eq, nw_eq, mT_wI, mP_wI, mN_wI, Nat.reduceLT, t1, p1, t2, ha, hb, (hr a ha).1, (hr a ha).2, hd a ha b hb, nI_gt0 (Nat.lt_of_le_of_lt (h9 a ha b hb) (by decide)), nI_1]
        rw [if_neg (by decide)]
        show _ = l_X4_next_13 _ F Q (nI s) (nI a) g (nI (nxo d s a ||| (orb (fun b => decide (0 < d a b)) b ||| (if decide (0 < d a b) = true then 2 ^ b else 0)))) (nI (b + 1)) σ
        by_cases h0 : 0 < d a b
        · rw [if_pos h0, if_pos (decide_eq_true h0), bx_one (Nat.lt_trans hb (by decide)), bx_or, Nat.or_assoc]
        · rw [if_neg h0, if_neg (by simp only [h0, decide_false]; decide), show (0 : Int32) = nI 0 from rfl, bx_or, Nat.or_assoc]
      · simp only [l_X4_next_13, ten_no, if_false]
    · have e : nxo d s (a + 1) = nxo d s a := if_neg hsa
      obtain ⟨g, rfl⟩ : ∃ g, F = g + 1 := ⟨F - 1, by omega⟩
      have c0 : (0 : Int32) < 10 := by decide
      simp only [l_X4_next_13, c0, if_true, e_has (Nat.lt_trans hs (by decide)) (Nat.lt_trans ha (by decide)), hsa, gI_T, gP_T, pI_T, pP_T, pZ_T, aI_T, aP_T, sI_T, sB_T, Option.bind_some, bq_some, jn_eq, nw_eq, mT_wI, mP_wI, mN_wI, Nat.reduceLT, e, nI_1]
      rfl
  · simp only [l_X4_next_4, ten_no, if_false]
theorem nxo_sub {s : Nat} : sub_ s (nxo d s 10) := fun i h => (nxo_bit 10 i).mpr (Or.inl h)
theorem lt_bit {r i : Nat} (h : r < 1024) (hb : r.testBit i = true) : i < 10 := by
  apply Classical.byContradiction
  intro hi
  rw [Nat.testBit_lt_two_pow (Nat.lt_of_lt_of_le h (Nat.pow_le_pow_right (n := 2) (i := 10) (by decide) (Nat.not_lt.mp hi)))] at hb
  cases hb
theorem nxo_closed {s : Nat} (hs : s < 1024) (h : nxo d s 10 = s) : closed d s := by
  intro a ha b hb h1 h2
  rw [← h]
  exact (nxo_bit 10 b).mpr (Or.inr ⟨hb, a, ha, h1, h2⟩)
theorem reach_loop {p : Nat} (hB : isB σ Q) (hd : hasD σ Q d) (h9 : b99 d) (hF : 10 < F) (K : Int32 → MM → Option (Int32 × MM)) : ∀ (n s f : Nat), 1024 - s ≤ n → n < f → s < 1024 → s.testBit p = true → (∀ s', s'.testBit p = true → closed d s' → sub_ s s') → ∃ r, isReach d p r ∧ l_X4_reach_10 K F Q f (nI s) (nI (nxo d s 10)) σ = K (nI r) σ := by
  intro n
  induction n with
  | zero => intro s f h1 h2 h3; omega
  | succ n ih =>
    intro s f h1 h2 h3 h4 h5
    obtain ⟨g, rfl⟩ : ∃ g, f = g + 1 := ⟨f - 1, by omega⟩
    have hn := nxo_lt (d := d) h3 10
    by_cases e : nxo d s 10 = s
    · refine ⟨s, ⟨h3, h4, nxo_closed h3 e, h5⟩, ?_⟩
      rw [l_X4_reach_10.eq_2, if_pos (by rw [e])]
    · have hle := (nxo_sub (d := d) (s := s)).le
      rw [l_X4_reach_10.eq_2, if_neg (fun q => e ((nI_eq (by omega) (by omega)).mp q)), e_X4_next hB hd h9 hn hF, bq_some]
      refine ih (nxo d s 10) g (by omega) (by omega) hn (nxo_sub p h4) (fun s' q1 q2 i hi => ?_)
      rcases (nxo_bit 10 i).mp hi with q | ⟨q3, a, q4, q5, q6⟩
      · exact h5 s' q1 q2 i q
      · exact q2 a q4 i q3 (h5 s' q1 q2 a q5) q6
theorem e_X4_reach {p : Nat} (hB : isB σ Q) (hd : hasD σ Q d) (h9 : b99 d) (hp : p < 10) (hF : 1100 < F) : ∃ r, isReach d p r ∧ g_X4_reach F σ Q (nI p) = some (nI r, σ) := by
  have hs : 2 ^ p < 1024 := Nat.pow_lt_pow_right (a := 2) (m := p) (n := 10) (by decide) hp
  have hbit : (2 ^ p).testBit p = true := by rw [bit_one]; exact decide_eq_true rfl
  unfold g_X4_reach
  rw [if_pos hB.1, bx_one (by omega), e_X4_next hB hd h9 hs (by omega), bq_some]
  exact reach_loop hB hd h9 (by omega) _ 1024 (2 ^ p) F (Nat.sub_le _ _) (by omega) hs hbit (fun s' h1 h2 i hi => by
    rw [bit_one] at hi
    have e : p = i := of_decide_eq_true hi
    exact e ▸ h1)
/-- the model's: what is left -/
def hasL (σ : MM) (A : Nat) (d : Nat → Nat → Nat) : Prop := ∀ a, a < 10 → ∀ b, b < 10 → mI σ A (10 * a + b) = nI (d a b)
theorem ten_ab (a b : Nat) : (10 : Int32) * nI a + nI b = nI (10 * a + b) := by
  rw [show (10 : Int32) = nI 10 from rfl, nI_mul, nI_add]
theorem e_X6_leftOf {a b : Nat} (l : lay σ) (hd : hasL σ 110 d) (ha : a < 10) (hb : b < 10) : g_X6_leftOf F σ 85 (nI a) (nI b) = some (nI (d a b), σ) := by
  unfold g_X6_leftOf
  have h1 : 10 * a + b < 100 := by omega
  simp only [gI_T, gP_T, pI_T, pP_T, pZ_T, aI_T, aP_T, sI_T, sB_T, Option.bind_some, bq_some, jn_eq, nw_eq, mT_wI, mP_wI, mN_wI, Nat.reduceLT, T85 l, P85_46 l, T110 l, if_true, ten_ab, h1, hd a ha b hb]
theorem left_in (l : lay σ) (hd : hasL σ 110 d) (h9 : b99 d) (hF : 10 < F) {a s s0 : Nat} {x3 : Int32} (ha : a < 10) (hs : s < 1024) (h1 : sub_ s0 s) (h2 : ∀ s', closed d s' → sub_ s0 s' → sub_ s s') (h3 : ∀ a', a' < a → ∀ b, b < 10 → s0.testBit a' = true → 0 < d a' b → s.testBit b = true) (K : Int32 → MM → Option (Int32 × MM)) : ∃ s', s' < 1024 ∧ sub_ s0 s' ∧ (∀ s'', closed d s'' → sub_ s0 s'' → sub_ s' s'') ∧ (∀ a', a' < a + 1 → ∀ b, b < 10 → s0.testBit a' = true → 0 < d a' b → s'.testBit b = true) ∧ l_X6_reachLeft_26 K F 85 x3 (nI a) F (nI s) 0 σ = K (nI s') σ := by
  obtain ⟨v, σ', ⟨s', e1, e2, g1, g2, g3, g4, g5⟩, he⟩ := yl2 (l_X6_reachLeft_26 K F 85 x3 (nI a)) K (fun k v τ => ∃ s', v = nI s' ∧ τ = σ ∧ s' < 1024 ∧ sub_ s0 s' ∧ (∀ s'', closed d s'' → sub_ s0 s'' → sub_ s' s'') ∧ (∀ a', a' < a → ∀ b, b < 10 → s0.testBit a' = true → 0 < d a' b → s'.testBit b = true) ∧ ∀ b, b < k → s0.testBit a = true → 0 < d a b → s'.testBit b = true) 10 (by
    intro f k v τ hk ⟨s', e1, e2, g1, g2, g3, g4, g5⟩
    subst e1; subst e2
    by_cases hb : s'.testBit a = true
    · by_cases h0 : 0 < d a k
      · refine ⟨nI (s' ||| 2 ^ k), τ, ⟨s' ||| 2 ^ k, rfl, rfl, Nat.or_lt_two_pow (n := 10) g1 (Nat.pow_lt_pow_right (by decide) hk), fun i hi => ?_, fun s'' q1 q2 i hi => ?_, fun a' q1 b q2 q3 q4 => ?_, fun b q1 q2 q3 => ?_⟩, ?_⟩
        · rw [Nat.testBit_or, g2 i hi]; rfl
        · rw [Nat.testBit_or, Bool.or_eq_true] at hi
          rcases hi with hi | hi
          · exact g3 s'' q1 q2 i hi
          · rw [bit_one] at hi
            have e : k = i := of_decide_eq_true hi
            subst e
            exact q1 a ha k hk (g3 s'' q1 q2 a hb) h0
        · rw [Nat.testBit_or, g4 a' q1 b q2 q3 q4]; rfl
        · rw [Nat.testBit_or, bit_one]
          by_cases e : k = b
          · simp [e]
          · rw [g5 b (by omega) q2 q3]; rfl
        · rw [l_X6_reachLeft_26.eq_2]
          simp only [ten_in hk, if_true, e_hasM (Nat.lt_trans g1 (by decide)) (Nat.lt_trans ha (by decide)), hb, bq_some, e_X6_leftOf l hd ha hk, nI_gt0 (Nat.lt_of_le_of_lt (h9 a ha k hk) (by decide)), h0, bx_one (Nat.lt_trans hk (by decide)), bx_or, nI_1]
          rfl
      · refine ⟨nI s', τ, ⟨s', rfl, rfl, g1, g2, g3, g4, fun b q1 q2 q3 => ?_⟩, ?_⟩
        · by_cases e : b = k
          · subst e; exact absurd q3 h0
          · exact g5 b (by omega) q2 q3
        · rw [l_X6_reachLeft_26.eq_2]
          simp only [ten_in hk, if_true, e_hasM (Nat.lt_trans g1 (by decide)) (Nat.lt_trans ha (by decide)), hb, bq_some, e_X6_leftOf l hd ha hk, nI_gt0 (Nat.lt_of_le_of_lt (h9 a ha k hk) (by decide)), h0, nI_1]
          rfl
    · refine ⟨nI s', τ, ⟨s', rfl, rfl, g1, g2, g3, g4, fun b q1 q2 q3 => absurd (g2 a q2) hb⟩, ?_⟩
      rw [l_X6_reachLeft_26.eq_2]
      simp only [ten_in hk, if_true, e_hasM (Nat.lt_trans g1 (by decide)) (Nat.lt_trans ha (by decide)), hb, bq_some, nI_1]
      rfl) (by
    intro f v τ _
    rw [l_X6_reachLeft_26.eq_2, if_neg ten_no]) (by omega) (v := nI s) (σ := σ) ⟨s, rfl, rfl, hs, h1, h2, h3, fun b hb => absurd hb (by omega)⟩
  subst e1; subst e2
  refine ⟨s', g1, g2, g3, fun a' q1 b q2 q3 q4 => ?_, he⟩
  by_cases e : a' = a
  · subst e; exact g5 b q2 q3 q4
  · exact g4 a' (by omega) b q2 q3 q4
theorem left_step (l : lay σ) (hd : hasL σ 110 d) (h9 : b99 d) (hF : 10 < F) {s0 : Nat} {x3 : Int32} (hs : s0 < 1024) (K : Int32 → MM → Option (Int32 × MM)) : ∃ s', s' < 1024 ∧ sub_ s0 s' ∧ (∀ s'', closed d s'' → sub_ s0 s'' → sub_ s' s'') ∧ (∀ a', a' < 10 → ∀ b, b < 10 → s0.testBit a' = true → 0 < d a' b → s'.testBit b = true) ∧ l_X6_reachLeft_16 K F 85 x3 F (nI s0) 0 σ = K (nI s') σ := by
  obtain ⟨v, σ', ⟨s', e1, e2, g1, g2, g3, g4⟩, he⟩ := yl2 (l_X6_reachLeft_16 K F 85 x3) K (fun k v τ => ∃ s', v = nI s' ∧ τ = σ ∧ s' < 1024 ∧ sub_ s0 s' ∧ (∀ s'', closed d s'' → sub_ s0 s'' → sub_ s' s'') ∧ (∀ a', a' < k → ∀ b, b < 10 → s0.testBit a' = true → 0 < d a' b → s'.testBit b = true)) 10 (by
    intro f k v τ hk ⟨s', e1, e2, g1, g2, g3, g4⟩
    subst e1; subst e2
    obtain ⟨s2, q1, q2, q3, q4, q5⟩ := left_in l hd h9 hF (x3 := x3) hk g1 g2 g3 g4 (fun (r2_6 : Int32) (σ5 : MM) => l_X6_reachLeft_16 K F 85 x3 f r2_6 ((nI k + 1)) σ5)
    refine ⟨nI s2, τ, ⟨s2, rfl, rfl, q1, q2, q3, q4⟩, ?_⟩
    rw [l_X6_reachLeft_16.eq_2, if_pos (ten_in hk), q5, nI_1]) (by
    intro f v τ _
    rw [l_X6_reachLeft_16.eq_2, if_neg ten_no]) hF (v := nI s0) (σ := σ) ⟨s0, rfl, rfl, hs, fun i h => h, fun s'' _ h => h, fun a' h => absurd h (by omega)⟩
  subst e1; subst e2
  exact ⟨s', g1, g2, g3, g4, he⟩
theorem left_loop {p : Nat} (l : lay σ) (hd : hasL σ 110 d) (h9 : b99 d) (hF : 10 < F) (K : Int32 → MM → Option (Int32 × MM)) : ∀ (n s t f : Nat), 1024 - s ≤ n → n < f → s < 1024 → t < 1024 → s.testBit p = true → (∀ s', s'.testBit p = true → closed d s' → sub_ s s') → (t = s → closed d s) → ∃ r, isReach d p r ∧ l_X6_reachLeft_6 K F 85 (f + 1) (nI s) (nI t) σ = K (nI r) σ := by
  intro n
  induction n with
  | zero => intro s t f h1 h2 h3; omega
  | succ n ih =>
    intro s t f h1 h2 h3 ht h4 h5 h6
    obtain ⟨g, rfl⟩ : ∃ g, f = g + 1 := ⟨f - 1, by omega⟩
    by_cases e : t = s
    · subst e
      refine ⟨t, ⟨h3, h4, h6 rfl, h5⟩, ?_⟩
      rw [l_X6_reachLeft_6.eq_2, if_pos rfl]
    · obtain ⟨s', q1, q2, q3, q4, q5⟩ := left_step l hd h9 hF (x3 := nI s) h3 (fun (r2_8 : Int32) (σ7 : MM) => l_X6_reachLeft_6 K F 85 (g + 1) r2_8 (nI s) σ7)
      rw [l_X6_reachLeft_6.eq_2, if_neg (fun q => e ((nI_eq (by omega) (by omega)).mp q).symm), q5]
      have hle := q2.le
      have hsub : ∀ s'', s''.testBit p = true → closed d s'' → sub_ s' s'' := fun s'' c1 c2 => q3 s'' c2 (h5 s'' c1 c2)
      by_cases e2 : s = s'
      · subst e2
        have hc : closed d s := fun a ha b hb c1 c2 => q4 a ha b hb c1 c2
        refine ⟨s, ⟨h3, h4, hc, h5⟩, ?_⟩
        rw [l_X6_reachLeft_6.eq_2, if_pos rfl]
      · exact ih s' s g (by omega) (by omega) q1 h3 (q2 p h4) hsub (fun q => absurd q e2)
theorem e_X6_reachLeft {p : Nat} (l : lay σ) (hd : hasL σ 110 d) (h9 : b99 d) (hp : p < 10) (hF : 1100 < F) : ∃ r, isReach d p r ∧ g_X6_reachLeft F σ 85 (nI p) = some (nI r, σ) := by
  have hs : 2 ^ p < 1024 := Nat.pow_lt_pow_right (a := 2) (m := p) (n := 10) (by decide) hp
  have hbit : (2 ^ p).testBit p = true := by rw [bit_one]; exact decide_eq_true rfl
  unfold g_X6_reachLeft
  obtain ⟨g, rfl⟩ : ∃ g, F = g + 1 := ⟨F - 1, by omega⟩
  rw [if_pos (T85 l), bx_one (by omega)]
  exact left_loop l hd h9 (by omega) _ 1024 (2 ^ p) 0 g (Nat.sub_le _ _) (by omega) hs (by decide) hbit (fun s' h1 h2 i hi => by
    rw [bit_one] at hi
    have e : p = i := of_decide_eq_true hi
    exact e ▸ h1) (fun q => by have := Nat.two_pow_pos p; omega)
end REACH
