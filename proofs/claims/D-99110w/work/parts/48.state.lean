/-! THE STATE that both hold -/
/-- debts, how often each had the coin, the chalk (oldest first), and q: 0 holder 1 goal (10: none) 2 from 3 left 4 hour 5 day 6 rain 7 the lot -/
abbrev DS : Type := (Nat → Nat → Nat) × (Nat → Int32) × List Nat × (Nat → Nat)
def pv (h : Nat) : Int32 := if h < 10 then nI h else -1
def qv (h : Nat) : Int32 := if h < 10 then nI h else -2
/-- the component's duchy at D; at most W chalked -/
def CD (W : Nat) (σ : MM) (D : Nat) (S : DS) : Prop :=
  hasD σ (D + 1) S.1 ∧ (∀ p, p < 10 → mI σ (D + 13) p = S.2.1 p) ∧
  (∃ w, w ≤ W ∧ mI σ D 10 = nI w ∧ S.2.2.1.length = min 40 w ∧ ∀ k, k < S.2.2.1.length → mI σ (D + 14) ((w - S.2.2.1.length + k) % 40) = nI (S.2.2.1.getD k 0)) ∧
  mI σ D 3 = pv (S.2.2.2 0) ∧ mI σ D 5 = pv (S.2.2.2 1) ∧ (S.2.2.2 1 < 10 → mI σ D 4 = nI (S.2.2.2 2) ∧ mI σ D 6 = nI (S.2.2.2 3)) ∧
  mI σ D 7 = nI (S.2.2.2 4) ∧ mI σ D 8 = nI (S.2.2.2 5) ∧ mI σ D 14 = nI (S.2.2.2 6) ∧ mI σ D 9 = nI (S.2.2.2 7)
/-- the model's, in its array A -/
def MD (τ : MM) (A : Nat) (S : DS) : Prop :=
  hasL τ A S.1 ∧ (∀ p, p < 10 → mI τ A (100 + p) = S.2.1 p) ∧
  (mI τ A 150 = nI S.2.2.1.length ∧ ∀ k, k < S.2.2.1.length → mI τ A (110 + k) = nI (S.2.2.1.getD k 0)) ∧
  mI τ A 151 = qv (S.2.2.2 0) ∧ mI τ A 153 = qv (S.2.2.2 1) ∧ (S.2.2.2 1 < 10 → mI τ A 152 = nI (S.2.2.2 2)) ∧ mI τ A 154 = nI (if S.2.2.2 1 < 10 then S.2.2.2 3 else 0) ∧
  mI τ A 155 = nI (S.2.2.2 4) ∧ mI τ A 156 = nI (S.2.2.2 5) ∧ mI τ A 157 = nI (S.2.2.2 6) ∧ mI τ A 158 = nI (S.2.2.2 7)
/-- what can be said of it; t: who is told of, Y: days -/
def DW (t Y : Nat) (S : DS) : Prop :=
  (∀ a, a < 10 → ∀ b, b < 10 → S.1 a b ≤ 99 ∧ (S.1 a b ≠ 0 → a ≠ b ∧ t.testBit a = true ∧ t.testBit b = true)) ∧ S.2.2.1.length ≤ 40 ∧
  S.2.2.2 0 ≤ 10 ∧ S.2.2.2 1 ≤ 10 ∧ (S.2.2.2 1 < 10 → S.2.2.2 2 < 10 ∧ 1 ≤ S.2.2.2 3 ∧ S.2.2.2 3 ≤ 18) ∧ (S.2.2.2 0 < 10 → t.testBit (S.2.2.2 0) = true) ∧
  S.2.2.2 4 < 24 ∧ S.2.2.2 5 ≤ Y ∧ S.2.2.2 6 ≤ 1 ∧ S.2.2.2 7 < 65536 ∧ ∀ k, k < S.2.2.1.length → S.2.2.1.getD k 0 < 10
theorem DW.b99 {t Y : Nat} {S : DS} (h : DW t Y S) : b99 S.1 := fun a ha b hb => (h.1 a ha b hb).1
/-- people: who, and where -/
def CE (σ : MM) (t : Nat) (xs ys : Nat → Nat) : Prop := mI σ 1 2 = nI t ∧ t < 1024 ∧ ∀ p, p < 10 → mI σ 2 p = nI (xs p) ∧ mI σ 3 p = nI (ys p) ∧ xs p < 10 ∧ ys p < 10
def ME (τ : MM) (t : Nat) (xs ys : Nat → Nat) : Prop := mI τ 85 5 = nI t ∧ t < 1024 ∧ ∀ p, p < 10 → mI τ 89 p = nI (xs p) ∧ mI τ 90 p = nI (ys p) ∧ xs p < 10 ∧ ys p < 10
/-- how far -/
def wayS (xs ys : Nat → Nat) (a b : Nat) : Nat := max 1 (((xs a : Int) - xs b).natAbs + ((ys a : Int) - ys b).natAbs)
theorem in_yes {k n : Nat} {F : Nat} {σ : MM} (h : k < n) (hn : n < 2147483648) : g_X0_in F σ (nI k) (nI n) = some (1, σ) := by
  unfold g_X0_in
  rw [if_neg (nI_pos (by omega)), if_pos (nI_lt h hn)]
theorem lt0_of {x : Int32} {n : Nat} (hn : n < 2147483648) (h : ∀ k, k < n → x ≠ nI k) : x < 0 ∨ ¬ x < nI n := by
  by_cases c : x < 0
  · exact Or.inl c
  · refine Or.inr (fun q => ?_)
    obtain ⟨j, hj, rfl⟩ := nI_of c
    exact h j ((nI_ltI hj hn).mp q) rfl
theorem in_no {x : Int32} {n : Nat} {F : Nat} {σ : MM} (hn : n < 2147483648) (h : ∀ k, k < n → x ≠ nI k) : g_X0_in F σ x (nI n) = some (0, σ) := by
  unfold g_X0_in
  by_cases c : x < 0
  · rw [if_pos c]
  · rw [if_neg c, if_neg ((lt0_of hn h).resolve_left c)]
/-- within low .. high -/
theorem inM_yes {k m : Nat} {F : Nat} {σ : MM} (h : k ≤ m) (hm : m < 2147483648) : g_X6_in F σ (nI k) 0 (nI m) = some (1, σ) := by
  unfold g_X6_in
  rw [if_neg (nI_pos (by omega)), if_neg (nI_nlt h hm)]
theorem inM_no {x : Int32} {m : Nat} {F : Nat} {σ : MM} (hm : m + 1 < 2147483648) (h : ∀ k, k ≤ m → x ≠ nI k) : g_X6_in F σ x 0 (nI m) = some (0, σ) := by
  unfold g_X6_in
  by_cases c : x < 0
  · rw [if_pos c]
  · rw [if_neg c]
    obtain ⟨j, hj, rfl⟩ := nI_of c
    rw [if_pos (nI_lt (Nat.lt_of_not_le (fun q => h j q rfl)) hj)]
theorem isNo (t : Nat) (x : Int32) : (∃ p, p < 10 ∧ t.testBit p = true ∧ x = nI p) ∨ ∀ p, p < 10 → t.testBit p = true → x ≠ nI p := by
  rcases Classical.em (∃ p, p < 10 ∧ t.testBit p = true ∧ x = nI p) with h | h
  · exact Or.inl h
  · exact Or.inr (fun p h1 h2 h3 => h ⟨p, h1, h2, h3⟩)
section STATE
variable {σ : MM} {F t : Nat} {xs ys : Nat → Nat}
theorem told_yes {p : Nat} (l : lay σ) (h : CE σ t xs ys) (hp : p < 10) (ht : t.testBit p = true) : g_X0_isTold F σ 1 (nI p) = some (1, σ) := by
  unfold g_X0_isTold
  rw [if_pos (T1 l), show (10 : Int32) = nI 10 from rfl, in_yes hp (by decide), bq_some, if_neg (by decide), gI_T (T1 l), Option.bind_some, h.1, e_has (Nat.lt_trans h.2.1 (by decide)) (by omega), bq_some, if_pos ht, if_neg (by decide)]
theorem told_no {x : Int32} (l : lay σ) (h : CE σ t xs ys) (hx : ∀ p, p < 10 → t.testBit p = true → x ≠ nI p) : g_X0_isTold F σ 1 x = some (0, σ) := by
  unfold g_X0_isTold
  rw [if_pos (T1 l), show (10 : Int32) = nI 10 from rfl]
  rcases Classical.em (∃ p, p < 10 ∧ x = nI p) with ⟨p, hp, rfl⟩ | hno
  · rw [in_yes hp (by decide), bq_some, if_neg (by decide), gI_T (T1 l), Option.bind_some, h.1, e_has (Nat.lt_trans h.2.1 (by decide)) (by omega), bq_some, if_neg (fun q => hx p hp q rfl), if_pos rfl]
  · rw [in_no (by decide) (fun k hk e => hno ⟨k, hk, e⟩), bq_some, if_pos rfl]
theorem person_yes {p : Nat} (l : lay σ) (h : ME σ t xs ys) (hp : p < 10) (ht : t.testBit p = true) : g_X6_isPerson F σ 85 (nI p) = some (1, σ) := by
  unfold g_X6_isPerson
  rw [if_pos (T85 l), show (9 : Int32) = nI 9 from rfl, inM_yes (by omega) (by decide), bq_some, if_neg (by decide), gI_T (T85 l), Option.bind_some, h.1, e_hasM (Nat.lt_trans h.2.1 (by decide)) (by omega), bq_some, if_pos ht, if_neg (by decide)]
theorem person_no {x : Int32} (l : lay σ) (h : ME σ t xs ys) (hx : ∀ p, p < 10 → t.testBit p = true → x ≠ nI p) : g_X6_isPerson F σ 85 x = some (0, σ) := by
  unfold g_X6_isPerson
  rw [if_pos (T85 l), show (9 : Int32) = nI 9 from rfl]
  rcases Classical.em (∃ p, p < 10 ∧ x = nI p) with ⟨p, hp, rfl⟩ | hno
  · rw [inM_yes (by omega) (by decide), bq_some, if_neg (by decide), gI_T (T85 l), Option.bind_some, h.1, e_hasM (Nat.lt_trans h.2.1 (by decide)) (by omega), bq_some, if_neg (fun q => hx p hp q rfl), if_pos rfl]
  · rw [inM_no (by decide) (fun k hk e => hno ⟨k, by omega, e⟩), bq_some, if_pos rfl]
theorem e_way {a b : Nat} (l : lay σ) (h : CE σ t xs ys) (ha : a < 10) (hb : b < 10) : g_X0_way F σ 1 (nI a) (nI b) = some (nI (wayS xs ys a b), σ) := by
  obtain ⟨-, -, hh⟩ := h
  obtain ⟨a1, a2, a3, a4⟩ := hh a ha
  obtain ⟨b1, b2, b3, b4⟩ := hh b hb
  unfold g_X0_way
  simp only [gI_T, gP_T, pI_T, pP_T, pZ_T, aI_T, aP_T, sI_T, sB_T, Option.bind_some, bq_some, jn_eq, nw_eq, mT_wI, mP_wI, mN_wI, Nat.reduceLT, T1 l, T2 l, T3 l, P1_0 l, P1_1 l, if_true, ha, hb, a1, a2, b1, b2, nI_subI]
  rw [jabs_iI (by omega) (by omega), jabs_iI (by omega) (by omega), iI_nat, iI_nat, nI_add, show (1 : Int32) = nI 1 from rfl, jmax_nI (by decide) (by omega)]
  rfl
theorem e_sizeM {z : Int} (h1 : -2147483648 < z) (h2 : z < 2147483648) : g_X6_size F σ (iI z) = some (nI z.natAbs, σ) := by
  unfold g_X6_size
  have e0 : (0 : Int32) = iI 0 := rfl
  by_cases c : z < 0
  · rw [if_pos (by rw [e0, iI_lt (by omega) h2 (by omega) (by omega)]; exact c), iI_neg, nI_iI]
    congr 3; omega
  · rw [if_neg (by rw [e0, iI_lt (by omega) h2 (by omega) (by omega)]; exact c), nI_iI]
    congr 3; omega
theorem e_maxM {a b : Nat} (ha : a < 2147483648) (hb : b < 2147483648) : g_X6_max F σ (nI a) (nI b) = some (nI (max a b), σ) := by
  unfold g_X6_max
  by_cases c : b < a
  · rw [if_pos (nI_lt c ha), Nat.max_eq_left (Nat.le_of_lt c)]
  · rw [if_neg (nI_nlt (Nat.not_lt.mp c) hb), Nat.max_eq_right (Nat.not_lt.mp c)]
theorem e_minM {a b : Nat} (ha : a < 2147483648) (hb : b < 2147483648) : g_X6_min F σ (nI a) (nI b) = some (nI (min a b), σ) := by
  unfold g_X6_min
  by_cases c : a < b
  · rw [if_pos (nI_lt c hb), Nat.min_eq_left (Nat.le_of_lt c)]
  · rw [if_neg (nI_nlt (Nat.not_lt.mp c) ha), Nat.min_eq_right (Nat.not_lt.mp c)]
theorem e_wayM {a b : Nat} (l : lay σ) (h : ME σ t xs ys) (ha : a < 10) (hb : b < 10) : g_X6_wayOf F σ 85 (nI a) (nI b) = some (nI (wayS xs ys a b), σ) := by
  obtain ⟨-, -, hh⟩ := h
  obtain ⟨a1, a2, a3, a4⟩ := hh a ha
  obtain ⟨b1, b2, b3, b4⟩ := hh b hb
  unfold g_X6_wayOf
  simp only [gI_T, gP_T, pI_T, pP_T, pZ_T, aI_T, aP_T, sI_T, sB_T, Option.bind_some, bq_some, jn_eq, nw_eq, mT_wI, mP_wI, mN_wI, Nat.reduceLT, T85 l, T89 l, T90 l, P85_3 l, P85_4 l, if_true, ha, hb, a1, a2, b1, b2, nI_subI]
  rw [e_sizeM (by omega) (by omega), bq_some]
  simp only [gI_T, gP_T, pI_T, pP_T, pZ_T, aI_T, aP_T, sI_T, sB_T, Option.bind_some, bq_some, jn_eq, nw_eq, mT_wI, mP_wI, mN_wI, Nat.reduceLT, T85 l, T90 l, P85_4 l, ha, hb, a2, b2, nI_subI]
  rw [e_sizeM (by omega) (by omega), bq_some, nI_add, show (1 : Int32) = nI 1 from rfl, e_maxM (by decide) (by omega), bq_some]
  rfl
end STATE
