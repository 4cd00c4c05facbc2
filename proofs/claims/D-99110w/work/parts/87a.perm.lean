/-! THE CHEAPEST WAY TO PAIR THEM: codes of rows, one after another -/
def dgt (n c k : Nat) : Nat := c / n ^ (n - 1 - k) % n
def permP (n c : Nat) : Prop := ∀ i, i < n → ∀ j, j < i → dgt n c i ≠ dgt n c j
noncomputable def permB (n c : Nat) : Bool := (Classical.propDecidable (permP n c)).decide
theorem permB_iff {n c : Nat} : permB n c = true ↔ permP n c := @decide_eq_true_iff _ (Classical.propDecidable (permP n c))
/-- cost of the first k -/
def cstS (w : Nat → Nat → Nat) (n c : Nat) : Nat → Nat
  | 0 => 0
  | k + 1 => cstS w n c k + w k (dgt n c k)
/-- the best so far: 0 none, else cost + 1; and its code -/
abbrev ES : Type := Nat × Nat
noncomputable def upE (w : Nat → Nat → Nat) (n : Nat) (s : ES) (c : Nat) : ES := if permB n c = true ∧ (s.1 = 0 ∨ cstS w n c n < s.1 - 1) then (cstS w n c n + 1, c) else s
noncomputable def runE (w : Nat → Nat → Nat) (n : Nat) (s : ES) (lo : Nat) : Nat → ES
  | 0 => s
  | len + 1 => upE w n (runE w n s lo len) (lo + len)
theorem runE_app {w : Nat → Nat → Nat} {n : Nat} {s : ES} {lo a : Nat} : ∀ b, runE w n s lo (a + b) = runE w n (runE w n s lo a) (lo + a) b
  | 0 => rfl
  | b + 1 => by
    have ih := runE_app (w := w) (n := n) (s := s) (lo := lo) (a := a) b
    show upE w n (runE w n s lo (a + b)) (lo + (a + b)) = upE w n (runE w n (runE w n s lo a) (lo + a) b) (lo + a + b)
    rw [ih, Nat.add_assoc]
theorem runE_id {w : Nat → Nat → Nat} {n : Nat} {s : ES} {lo : Nat} : ∀ len, (∀ c, lo ≤ c → c < lo + len → upE w n s c = s) → runE w n s lo len = s
  | 0, _ => rfl
  | len + 1, h => by
    show upE w n (runE w n s lo len) (lo + len) = s
    rw [runE_id len (fun c h1 h2 => h c h1 (by omega))]
    exact h _ (by omega) (by omega)
/-- digits of what begins alike -/
theorem dgt_pre {n p c k i : Nat} (hk : k ≤ n) (hi : i < k) (h1 : p * n ^ (n - k) ≤ c) (h2 : c < (p + 1) * n ^ (n - k)) : dgt n c i = p / n ^ (k - 1 - i) % n := by
  unfold dgt
  by_cases hn : n = 0
  · omega
  have pos : 0 < n ^ (n - k) := Nat.pow_pos (by omega)
  have e1 : c / n ^ (n - k) = p := by
    apply Nat.le_antisymm
    · exact Nat.lt_succ_iff.mp ((Nat.div_lt_iff_lt_mul pos).mpr h2)
    · exact (Nat.le_div_iff_mul_le pos).mpr h1
  have e2 : n ^ (n - 1 - i) = n ^ (n - k) * n ^ (k - 1 - i) := by
    rw [← Nat.pow_add]
    congr 1
    omega
  rw [e2, ← Nat.div_div_eq_div_mul, e1]
/-- what is used by a beginning -/
def usedP (n p k : Nat) (u : Nat) : Prop := u < 2 ^ n ∧ ∀ m, m < n → (u.testBit m = true ↔ ∃ i, i < k ∧ p / n ^ (k - 1 - i) % n = m)
theorem pre_last {n p m k : Nat} (hm : m < n) : (p * n + m) / n ^ (k + 1 - 1 - k) % n = m := by
  rw [show k + 1 - 1 - k = 0 by omega, Nat.pow_zero, Nat.div_one, Nat.mul_comm, Nat.mul_add_mod, Nat.mod_eq_of_lt hm]
theorem pre_old {n p m k i : Nat} (hm : m < n) (hi : i < k) : (p * n + m) / n ^ (k + 1 - 1 - i) % n = p / n ^ (k - 1 - i) % n := by
  have e : k + 1 - 1 - i = (k - 1 - i) + 1 := by omega
  rw [e, Nat.pow_succ, Nat.mul_comm (n ^ (k - 1 - i)) n, ← Nat.div_div_eq_div_mul]
  have : (p * n + m) / n = p := by
    rw [Nat.mul_comm, Nat.mul_add_div (by omega), Nat.div_eq_of_lt hm, Nat.add_zero]
  rw [this]
theorem used_next {n p m k u : Nat} (hm : m < n) (h : usedP n p k u) : usedP n (p * n + m) (k + 1) (u ||| 2 ^ m) := by
  obtain ⟨h1, h2⟩ := h
  refine ⟨Nat.or_lt_two_pow h1 (Nat.pow_lt_pow_right (by decide) hm), fun x hx => ?_⟩
  rw [or_bit, h2 x hx]
  constructor
  · rintro (⟨i, hi, e⟩ | e)
    · exact ⟨i, by omega, by rw [pre_old hm hi]; exact e⟩
    · exact ⟨k, by omega, by rw [pre_last hm]; exact e.symm⟩
  · rintro ⟨i, hi, e⟩
    by_cases c : i = k
    · subst c
      rw [pre_last hm] at e
      exact Or.inr e.symm
    · rw [pre_old hm (by omega)] at e
      exact Or.inl ⟨i, by omega, e⟩
theorem cst_mono {w : Nat → Nat → Nat} {n c k : Nat} : ∀ m, cstS w n c k ≤ cstS w n c (k + m)
  | 0 => Nat.le_refl _
  | m + 1 => by
    have ih := cst_mono (w := w) (n := n) (c := c) (k := k) m
    show _ ≤ cstS w n c (k + m) + w (k + m) (dgt n c (k + m))
    omega
theorem cst_pre {w : Nat → Nat → Nat} {n p c c' k : Nat} (hk : k ≤ n) (h1 : p * n ^ (n - k) ≤ c) (h2 : c < (p + 1) * n ^ (n - k)) (h3 : p * n ^ (n - k) ≤ c') (h4 : c' < (p + 1) * n ^ (n - k)) : ∀ i, i ≤ k → cstS w n c i = cstS w n c' i
  | 0, _ => rfl
  | i + 1, hi => by
    show cstS w n c i + w i (dgt n c i) = cstS w n c' i + w i (dgt n c' i)
    rw [cst_pre hk h1 h2 h3 h4 i (by omega), dgt_pre hk (by omega) h1 h2, dgt_pre hk (by omega) h3 h4]
