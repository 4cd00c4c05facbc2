/-! ONE ROW OF ALL DEBTS -/
/-- something else, a counter, the memory; and a way out -/
theorem yl2X {R α : Type} (L : Nat → α → Int32 → MM → Option R) (E : α → MM → Option R) (J : Nat → α → MM → Prop) (Q : Option R → Prop) (N : Nat) (hs : ∀ f i v σ, i < N → J i v σ → (∃ v' σ', J (i + 1) v' σ' ∧ L (f + 1) v (nI i) σ = L f v' (nI (i + 1)) σ') ∨ Q (L (f + 1) v (nI i) σ)) (he : ∀ f v σ, J N v σ → L (f + 1) v (nI N) σ = E v σ) {f : Nat} {v : α} {σ : MM} (hf : N < f) (h0 : J 0 v σ) : (∃ v' σ', J N v' σ' ∧ L f v 0 σ = E v' σ') ∨ Q (L f v 0 σ) := by
  rcases loopX (fun f (s : Nat × α × MM) => L f s.2.1 (nI s.1) s.2.2) (fun s => E s.2.1 s.2.2) (fun i s => s.1 = i ∧ J i s.2.1 s.2.2) Q N (fun f i s hi h => by
    rcases hs f i s.2.1 s.2.2 hi h.2 with ⟨v', σ', h1, h2⟩ | h3
    · refine Or.inl ⟨(i + 1, v', σ'), ⟨rfl, h1⟩, ?_⟩
      (try dsimp only)
      rw [h.1]
      exact h2
    · refine Or.inr ?_
      rw [h.1]
      exact h3) (fun f s h => by
    (try dsimp only)
    rw [h.1]
    exact he f s.2.1 s.2.2 h.2) f (0, v, σ) hf ⟨rfl, h0⟩ with ⟨s', h, e⟩ | h
  · exact Or.inl ⟨s'.2.1, s'.2.2, h.2, e⟩
  · exact Or.inr h
def cnt (p : Nat → Bool) : Nat → Nat
  | 0 => 0
  | n + 1 => cnt p n + (if p n = true then 1 else 0)
theorem cnt_le {p : Nat → Bool} : ∀ n, cnt p n ≤ n
  | 0 => Nat.le_refl 0
  | n + 1 => by
    have := cnt_le (p := p) n
    show cnt p n + (if p n = true then 1 else 0) ≤ n + 1
    split <;> omega
theorem cnt_congr {p q : Nat → Bool} : ∀ n, (∀ k, k < n → p k = q k) → cnt p n = cnt q n
  | 0, _ => rfl
  | n + 1, h => by
    show cnt p n + _ = cnt q n + _
    rw [cnt_congr n (fun k hk => h k (by omega)), h n (by omega)]
theorem cnt_zero {p : Nat → Bool} : ∀ n, cnt p n = 0 → ∀ k, k < n → p k = false
  | 0, _, k, hk => absurd hk (by omega)
  | n + 1, h, k, hk => by
    have h : cnt p n + (if p n = true then 1 else 0) = 0 := h
    by_cases e : k = n
    · subst e
      cases hp : p k with
      | false => rfl
      | true => rw [hp] at h; simp at h
    · exact cnt_zero n (by omega) k (by omega)
theorem cnt_none {p : Nat → Bool} : ∀ n, (∀ k, k < n → p k = false) → cnt p n = 0
  | 0, _ => rfl
  | n + 1, h => by
    show cnt p n + (if p n = true then 1 else 0) = 0
    rw [cnt_none n (fun k hk => h k (by omega)), h n (by omega)]
    rfl
theorem cnt_one {p : Nat → Bool} {k : Nat} : ∀ n, k < n → p k = true → (∀ j, j < n → p j = true → j = k) → cnt p n = 1
  | 0, hk, _, _ => absurd hk (by omega)
  | n + 1, hk, hp, h => by
    show cnt p n + (if p n = true then 1 else 0) = 1
    by_cases e : k = n
    · subst e
      rw [cnt_none k (fun j hj => by
        cases hq : p j with
        | false => rfl
        | true => have := h j (by omega) hq; omega), if_pos hp]
    · rw [cnt_one n (by omega) hp (fun j hj => h j (by omega)), if_neg (fun q => e (h n (by omega) q).symm)]
theorem cnt_uniq {p : Nat → Bool} : ∀ n, cnt p n = 1 → ∀ j k, j < n → k < n → p j = true → p k = true → j = k
  | 0, h => by cases h
  | n + 1, h => by
    have h : cnt p n + (if p n = true then 1 else 0) = 1 := h
    intro j k hj hk pj pk
    by_cases hn : p n = true
    · rw [if_pos hn] at h
      have hz := cnt_zero (p := p) n (by omega)
      have e1 : j = n := by
        apply Classical.byContradiction
        intro e
        have := hz j (by omega)
        rw [pj] at this; cases this
      have e2 : k = n := by
        apply Classical.byContradiction
        intro e
        have := hz k (by omega)
        rw [pk] at this; cases this
      rw [e1, e2]
    · rw [if_neg hn] at h
      have e1 : j ≠ n := fun e => hn (e ▸ pj)
      have e2 : k ≠ n := fun e => hn (e ▸ pk)
      exact cnt_uniq n (by omega) j k (by omega) (by omega) pj pk
theorem sm_add {f g : Nat → Nat} : ∀ n, sm (fun k => f k + g k) n = sm f n + sm g n
  | 0 => rfl
  | n + 1 => by
    show sm _ n + (f n + g n) = sm f n + f n + (sm g n + g n)
    rw [sm_add n]
    omega
theorem sm_zero : ∀ n, sm (fun _ => 0) n = 0
  | 0 => rfl
  | n + 1 => sm_zero n
theorem sm_swap {d : Nat → Nat → Nat} {m : Nat} : ∀ n, sm (fun a => sm (fun b => d a b) m) n = sm (fun b => sm (fun a => d a b) n) m
  | 0 => (sm_zero m).symm
  | n + 1 => by
    show sm (fun a => sm (fun b => d a b) m) n + sm (fun b => d n b) m = sm (fun b => sm (fun a => d a b) n + d n b) m
    rw [sm_swap n, sm_add]
theorem sm_mono {f g : Nat → Nat} : ∀ n, (∀ k, k < n → f k ≤ g k) → sm f n ≤ sm g n
  | 0, _ => Nat.le_refl 0
  | n + 1, h => Nat.add_le_add (sm_mono n (fun k hk => h k (by omega))) (h n (by omega))
theorem sm_eq {f g : Nat → Nat} : ∀ n, (∀ k, k < n → f k ≤ g k) → sm f n = sm g n → ∀ k, k < n → f k = g k
  | 0, _, _, k, hk => absurd hk (by omega)
  | n + 1, h, e, k, hk => by
    have h1 := sm_mono n (fun k hk => h k (by omega))
    have h2 := h n (by omega)
    have e : sm f n + f n = sm g n + g n := e
    by_cases q : k = n
    · subst q; omega
    · exact sm_eq n (fun k hk => h k (by omega)) (by omega) k (by omega)
theorem sm_off1 {f g : Nat → Nat} : ∀ n, (∀ k, k < n → f k ≤ g k) → sm g n = sm f n + 1 → ∃ k, k < n ∧ g k = f k + 1 ∧ ∀ j, j < n → j ≠ k → g j = f j
  | 0, _, e => by cases e
  | n + 1, h, e => by
    have h1 := sm_mono n (fun k hk => h k (by omega))
    have h2 := h n (by omega)
    have e : sm g n + g n = sm f n + f n + 1 := e
    by_cases q : g n = f n
    · obtain ⟨k, k1, k2, k3⟩ := sm_off1 n (fun k hk => h k (by omega)) (by omega)
      refine ⟨k, by omega, k2, fun j hj hne => ?_⟩
      by_cases c : j = n
      · subst c; exact q
      · exact k3 j (by omega) hne
    · have e2 := sm_eq n (fun k hk => h k (by omega)) (by omega : sm f n = sm g n)
      refine ⟨n, by omega, by omega, fun j hj hne => (e2 j (by omega)).symm⟩
theorem sm_ind {p n : Nat} (h : p < n) (y : Nat → Nat) : sm (fun k => y k + if k = p then 1 else 0) n = sm y n + 1 := by
  rw [sm_add]
  congr 1
  have key : ∀ m, sm (fun k => if k = p then 1 else 0) m = if p < m then 1 else 0 := by
    intro m
    induction m with
    | zero => rfl
    | succ m ih =>
      show sm (fun k => if k = p then 1 else 0) m + (if m = p then 1 else 0) = _
      rw [ih]
      by_cases c : m = p
      · subst c
        rw [if_neg (by omega), if_pos rfl, if_pos (by omega)]
      · rw [if_neg c]
        by_cases c2 : p < m
        · rw [if_pos c2, if_pos (by omega)]
        · rw [if_neg c2, if_neg (by omega)]
  rw [key n, if_pos h]
/-- as the model has it, and as the component has it -/
def RowM (x y : Nat → Nat) (r p : Nat) : Prop := (∀ a, a < 10 → (0 < x a → r.testBit a = true) ∧ x a ≤ y a + 1) ∧ ((cnt (fun a => decide (y a < x a)) 10 = 0 ∧ x p = y p) ∨ (cnt (fun a => decide (y a < x a)) 10 = 1 ∧ x p = y p + 1))
def RowC (x y : Nat → Nat) (r p : Nat) : Prop := (∀ a, a < 10 → (0 < x a → r.testBit a = true) ∧ x a ≤ y a + 1 ∧ y a ≤ x a + 1) ∧ (cnt (fun a => decide (x a = y a + 1)) 10 = 0 ∨ (cnt (fun a => decide (x a = y a + 1)) 10 = 1 ∧ cnt (fun a => decide (y a = x a + 1)) 10 = 1 ∧ x p = y p + 1))
theorem row_eq {x y : Nat → Nat} {r p : Nat} (hp : p < 10) (hs : sm x 10 = sm y 10) : RowC x y r p ↔ RowM x y r p := by
  constructor
  · rintro ⟨h1, h2⟩
    have e : cnt (fun a => decide (y a < x a)) 10 = cnt (fun a => decide (x a = y a + 1)) 10 := cnt_congr 10 (fun k hk => by
      have := h1 k hk
      by_cases c : x k = y k + 1
      · rw [decide_eq_true c, decide_eq_true (by omega)]
      · rw [decide_eq_false c, decide_eq_false (by omega)])
    refine ⟨fun a ha => ⟨(h1 a ha).1, (h1 a ha).2.1⟩, ?_⟩
    rcases h2 with h2 | ⟨h2, h3, h4⟩
    · refine Or.inl ⟨e.trans h2, ?_⟩
      have hz := cnt_zero 10 h2
      exact sm_eq 10 (fun k hk => by
        have q1 := of_decide_eq_false (hz k hk)
        have q2 := (h1 k hk).2.1
        omega) hs p hp
    · exact Or.inr ⟨e.trans h2, h4⟩
  · rintro ⟨h1, h2⟩
    have e : cnt (fun a => decide (x a = y a + 1)) 10 = cnt (fun a => decide (y a < x a)) 10 := cnt_congr 10 (fun k hk => by
      have := h1 k hk
      by_cases c : x k = y k + 1
      · rw [decide_eq_true c, decide_eq_true (by omega)]
      · rw [decide_eq_false c, decide_eq_false (by omega)])
    rcases h2 with ⟨h2, h3⟩ | ⟨h2, h3⟩
    · have hz := cnt_zero 10 h2
      have he := sm_eq 10 (fun k hk => Nat.not_lt.mp (of_decide_eq_false (hz k hk))) hs
      exact ⟨fun a ha => ⟨(h1 a ha).1, (h1 a ha).2, by rw [he a ha]; omega⟩, Or.inl (e.trans h2)⟩
    · have hu := cnt_uniq 10 h2
      have hle : ∀ k, k < 10 → x k ≤ y k + if k = p then 1 else 0 := by
        intro k hk
        by_cases c : k = p
        · subst c; rw [if_pos rfl]; omega
        · rw [if_neg c]
          apply Classical.byContradiction
          intro q
          exact c (hu k p hk hp (decide_eq_true (by omega)) (decide_eq_true (by omega)))
      obtain ⟨k, k1, k2, k3⟩ := sm_off1 10 hle (by rw [sm_ind hp, hs])
      have hkp : k ≠ p := by
        intro c
        rw [c, if_pos rfl] at k2
        omega
      rw [if_neg hkp] at k2
      have hoth : ∀ j, j < 10 → j ≠ k → j ≠ p → y j = x j := fun j hj q1 q2 => by
        have := k3 j hj q1
        rw [if_neg q2] at this
        exact this
      refine ⟨fun a ha => ⟨(h1 a ha).1, (h1 a ha).2, ?_⟩, Or.inr ⟨e.trans h2, cnt_one 10 k1 (decide_eq_true (by omega)) (fun j hj q => ?_), h3⟩⟩
      · by_cases c1 : a = k
        · subst c1; omega
        · by_cases c2 : a = p
          · subst c2; omega
          · rw [hoth a ha c1 c2]; omega
      · have q := of_decide_eq_true q
        apply Classical.byContradiction
        intro c1
        by_cases c2 : j = p
        · subst c2; omega
        · have := hoth j hj c1 c2
          omega
