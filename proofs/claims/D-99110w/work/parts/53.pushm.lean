/-! THE MODEL: somebody gets the coin -/
section PUSHM
variable {σ : MM} {F t Y : Nat} {S : DS}
theorem aN {k : Nat} (l : lay σ) (hk : k < 159) : aI σ 86 20 (nI k) = some (mI σ 86 k) := aI_T (by rw [T86 l]) (by rw [T86 l]; exact hk) (by rw [T86 l]; decide)
theorem sN {k : Nat} {v : Int32} (l : lay σ) (hk : k < 159) : sI σ 86 (nI k) v = some (wI σ 86 k v) := sI_T (by rw [T86 l]) (by rw [T86 l]; exact hk) (by rw [T86 l]; decide)
theorem gN (l : lay σ) : gP σ 85 5 62 0 = some 86 := by rw [gP_T (T85 l), P85_0 l]
theorem e_X6_rests {v : Int32} (l : lay σ) : g_X6_rests F σ 85 v = some (wI (wI (wI σ 86 151 v) 86 153 (-2)) 86 154 0) := by
  unfold g_X6_rests
  have l1 : lay (wI σ 86 151 v) := l
  have l2 : lay (wI (wI σ 86 151 v) 86 153 (-2)) := l
  rw [if_pos (T85 l), gN l, Option.bind_some, show (151 : Int32) = nI 151 from rfl, sN l (by decide), Option.bind_some, gN l1, Option.bind_some, show (153 : Int32) = nI 153 from rfl, sN l1 (by decide), Option.bind_some, gN l2, Option.bind_some, show (154 : Int32) = nI 154 from rfl, sN l2 (by decide), Option.bind_some]
/-- the chalk's shift -/
theorem chalk_shift (l : lay σ) (hF : 100 < F) (x1 : Int32) (K : MM → Option MM) : ∃ σ', kp (fun x => x = 86) σ σ' ∧ (∀ j, j < 110 ∨ 149 ≤ j → mI σ' 86 j = mI σ 86 j) ∧ (∀ k, k < 39 → mI σ' 86 (110 + k) = mI σ 86 (110 + k + 1)) ∧ l_X6_chalks_15 K F 85 x1 F 1 σ = K σ' := by
  have key : ∀ n i f s, i + n = 40 → 1 ≤ i → n < f → kp (fun x => x = 86) σ s → (∀ j, j < 110 ∨ 149 ≤ j → mI s 86 j = mI σ 86 j) → (∀ k, k + 1 < i → mI s 86 (110 + k) = mI σ 86 (110 + k + 1)) → (∀ k, i ≤ k + 1 → mI s 86 (110 + k) = mI σ 86 (110 + k)) → ∃ σ', kp (fun x => x = 86) σ σ' ∧ (∀ j, j < 110 ∨ 149 ≤ j → mI σ' 86 j = mI σ 86 j) ∧ (∀ k, k < 39 → mI σ' 86 (110 + k) = mI σ 86 (110 + k + 1)) ∧ l_X6_chalks_15 K F 85 x1 f (nI i) s = K σ' := by
    intro n
    induction n with
    | zero =>
      intro i f s e h1 hf hk h2 h3 h4
      obtain ⟨f, rfl⟩ : ∃ g, f = g + 1 := ⟨f - 1, by omega⟩
      have e : i = 40 := by omega
      subst e
      refine ⟨s, hk, h2, fun k hk9 => h3 k (by omega), ?_⟩
      rw [l_X6_chalks_15.eq_2, if_neg (by decide)]
    | succ n ih =>
      intro i f s e h1 hf hk h2 h3 h4
      obtain ⟨f, rfl⟩ : ∃ g, f = g + 1 := ⟨f - 1, by omega⟩
      obtain ⟨i, rfl⟩ : ∃ i', i = i' + 1 := ⟨i - 1, by omega⟩
      have ls := hk.ly l
      have e1 : (110 : Int32) + nI (i + 1) = nI (110 + i + 1) := by rw [show (110 : Int32) = nI 110 from rfl, nI_add]; rfl
      have e2 : nI (110 + i + 1) - 1 = nI (110 + i) := nI_pred _
      rw [l_X6_chalks_15.eq_2, if_pos (show nI (i + 1) < 40 from nI_lt (b := 40) (by omega) (by decide)), gN ls, Option.bind_some, Option.bind_some, e1, aN ls (by omega), Option.bind_some, e2, sN ls (by omega), Option.bind_some, nI_1]
      refine ih (i + 1 + 1) f _ (by omega) (by omega) (by omega) (hk.trans (kp.w rfl)) (fun j hj => ?_) (fun k hk9 => ?_) (fun k hk9 => ?_)
      · rw [mI_wy (by omega)]; exact h2 j hj
      · by_cases c : k = i
        · subst c
          rw [mI_ws]
          exact h4 (k + 1) (by omega)
        · rw [mI_wy (by omega)]; exact h3 k (by omega)
      · rw [mI_wy (by omega)]; exact h4 k (by omega)
  exact key 39 1 F σ (by omega) (by omega) (by omega) kp.refl (fun _ _ => rfl) (fun k hk => absurd hk (by omega)) (fun _ _ => rfl)
end PUSHM
