/-! LOOPS: L (fuel) (state); after N rounds the end E -/
theorem loopN {R S : Type} (L : Nat → S → Option R) (E : S → Option R) (J : Nat → S) (N : Nat) (hs : ∀ f i, i < N → L (f + 1) (J i) = L f (J (i + 1))) (he : ∀ f, L (f + 1) (J N) = E (J N)) : ∀ f, N < f → L f (J 0) = E (J N) := by
  have key : ∀ n i f, i + n = N → n < f → L f (J i) = E (J N) := by
    intro n
    induction n with
    | zero =>
      intro i f hi hf
      obtain ⟨g, rfl⟩ : ∃ g, f = g + 1 := ⟨f - 1, by omega⟩
      have : i = N := by omega
      subst this
      exact he g
    | succ n ih =>
      intro i f hi hf
      obtain ⟨g, rfl⟩ : ∃ g, f = g + 1 := ⟨f - 1, by omega⟩
      rw [hs g i (by omega)]
      exact ih (i + 1) g (by omega) (by omega)
  exact fun f hf => key N 0 f (by omega) hf
theorem loopR {R S : Type} (L : Nat → S → Option R) (E : S → Option R) (J : Nat → S → Prop) (N : Nat) (hs : ∀ f i s, i < N → J i s → ∃ s', J (i + 1) s' ∧ L (f + 1) s = L f s') (he : ∀ f s, J N s → L (f + 1) s = E s) : ∀ f s, N < f → J 0 s → ∃ s', J N s' ∧ L f s = E s' := by
  have key : ∀ n i f s, i + n = N → n < f → J i s → ∃ s', J N s' ∧ L f s = E s' := by
    intro n
    induction n with
    | zero =>
      intro i f s hi hf hJ
      obtain ⟨g, rfl⟩ : ∃ g, f = g + 1 := ⟨f - 1, by omega⟩
      have : i = N := by omega
      subst this
      exact ⟨s, hJ, he g s hJ⟩
    | succ n ih =>
      intro i f s hi hf hJ
      obtain ⟨g, rfl⟩ : ∃ g, f = g + 1 := ⟨f - 1, by omega⟩
      obtain ⟨s', h1, h2⟩ := hs g i s (by omega) hJ
      rw [h2]
      exact ih (i + 1) g s' (by omega) (by omega) h1
  exact fun f s hf hJ => key N 0 f s (by omega) hf hJ
/-- with another way out, of which Q tells -/
theorem loopX {R S : Type} (L : Nat → S → Option R) (E : S → Option R) (J : Nat → S → Prop) (Q : Option R → Prop) (N : Nat) (hs : ∀ f i s, i < N → J i s → (∃ s', J (i + 1) s' ∧ L (f + 1) s = L f s') ∨ Q (L (f + 1) s)) (he : ∀ f s, J N s → L (f + 1) s = E s) : ∀ f s, N < f → J 0 s → (∃ s', J N s' ∧ L f s = E s') ∨ Q (L f s) := by
  have key : ∀ n i f s, i + n = N → n < f → J i s → (∃ s', J N s' ∧ L f s = E s') ∨ Q (L f s) := by
    intro n
    induction n with
    | zero =>
      intro i f s hi hf hJ
      obtain ⟨g, rfl⟩ : ∃ g, f = g + 1 := ⟨f - 1, by omega⟩
      have : i = N := by omega
      subst this
      exact Or.inl ⟨s, hJ, he g s hJ⟩
    | succ n ih =>
      intro i f s hi hf hJ
      obtain ⟨g, rfl⟩ : ∃ g, f = g + 1 := ⟨f - 1, by omega⟩
      rcases hs g i s (by omega) hJ with ⟨s', h1, h2⟩ | h
      · rw [h2]
        exact ih (i + 1) g s' (by omega) (by omega) h1
      · exact Or.inr h
  exact fun f s hf hJ => key N 0 f s (by omega) hf hJ
/-- sums -/
def sm (f : Nat → Nat) : Nat → Nat
  | 0 => 0
  | n + 1 => sm f n + f n
theorem sm_le {f : Nat → Nat} {M : Nat} : ∀ n, (∀ k, k < n → f k ≤ M) → sm f n ≤ n * M
  | 0, _ => Nat.zero_le _
  | n + 1, h => by
    have h1 := sm_le n (fun k hk => h k (by omega))
    have h2 := h n (by omega)
    show sm f n + f n ≤ (n + 1) * M
    rw [Nat.succ_mul]
    omega
theorem sm_congr {f g : Nat → Nat} : ∀ n, (∀ k, k < n → f k = g k) → sm f n = sm g n
  | 0, _ => rfl
  | n + 1, h => by
    show sm f n + f n = sm g n + g n
    rw [sm_congr n (fun k hk => h k (by omega)), h n (by omega)]
/-- a Debts object and its rows -/
def isB (σ : MM) (Q : Nat) : Prop := mT σ Q = (3, 1) ∧ mP σ Q 0 = Q + 1 ∧ mT σ (Q + 1) = (22, 10) ∧ ∀ k, k < 10 → mP σ (Q + 1) k = Q + 2 + k ∧ mT σ (Q + 2 + k) = (20, 10)
def hasD (σ : MM) (Q : Nat) (d : Nat → Nat → Nat) : Prop := ∀ a, a < 10 → ∀ b, b < 10 → mI σ (Q + 2 + a) b = nI (d a b)
def owesS (d : Nat → Nat → Nat) (a : Nat) : Nat := sm (fun b => d a b) 10
def getsS (d : Nat → Nat → Nat) (b : Nat) : Nat := sm (fun a => d a b) 10
def allS (d : Nat → Nat → Nat) : Nat := sm (fun a => owesS d a) 10
theorem isB_wI {σ : MM} {Q a j : Nat} {v : Int32} (h : isB σ Q) : isB (wI σ a j v) Q := h
theorem lay_isB5 {σ : MM} (h : lay σ) : isB σ 6 := ⟨T6 h, P6_0 h, T7 h, fun k hk => ⟨G7 h hk, R7 h hk⟩⟩
theorem lay_isB20 {σ : MM} (h : lay σ) : isB σ 21 := ⟨T21 h, P21_0 h, T22 h, fun k hk => ⟨G22 h hk, R22 h hk⟩⟩
theorem lay_isB35 {σ : MM} (h : lay σ) : isB σ 36 := ⟨T36 h, P36_0 h, T37 h, fun k hk => ⟨G37 h hk, R37 h hk⟩⟩
theorem lay_isB55 {σ : MM} (h : lay σ) : isB σ 55 := ⟨T55 h, P55_0 h, T56 h, fun k hk => ⟨G56 h hk, R56 h hk⟩⟩
section DEBTS
variable {σ : MM} {Q F a b : Nat} {d : Nat → Nat → Nat}
theorem e_X4_owes (hB : isB σ Q) (hd : hasD σ Q d) (ha : a < 10) (hF : 10 < F) : g_X4_owes F σ Q (nI a) = some (nI (owesS d a), σ) := by
  obtain ⟨t1, p1, t2, hr⟩ := hB
  unfold g_X4_owes
  rw [if_pos t1]
  refine loopN (fun f s => l_X4_owes_4 (fun (r2_5 : Int32) (σ4 : MM) => some (r2_5, σ4)) F Q (nI a) f s.1 s.2.1 s.2.2) (fun s => some (s.1, s.2.2)) (fun i => (nI (sm (fun b => d a b) i), nI i, σ)) 10 (fun f i hi => ?_) (fun f => ?_) F hF
  · have c : nI i < 10 := nI_lt (b := 10) hi (by decide)
    simp only [l_X4_owes_4, c, if_true, gI_T, gP_T, pI_T, pP_T, pZ_T, aI_T, aP_T, sI_T, sB_T, Option.bind_some, bq_some, jn_eq, nw_eq, mT_wI, mP_wI, mN_wI, Nat.reduceLT, t1, p1, t2, ha, (hr a ha).1, (hr a ha).2, hi, hd a ha i hi, nI_add, nI_1]
    rfl
  · have c : ¬ nI 10 < 10 := by decide
    simp only [l_X4_owes_4, c, if_false]
end DEBTS
