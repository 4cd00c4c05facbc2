/-! how many in a set -/
def pop (k : Nat) : Nat := sm (fun i => if k.testBit i = true then 1 else 0) 12
theorem pop_le (k : Nat) : pop k ≤ 12 := by
  have := sm_le (f := fun i => if k.testBit i = true then 1 else 0) (M := 1) 12 (fun i _ => by split <;> omega)
  exact this
theorem bits_eq {F : Nat} {σ : MM} {k : Nat} (hk : k < 2147483648) (hF : 100 < F) : g_X6_bits F σ (nI k) = some (nI (pop k), σ) := by
  unfold g_X6_bits
  refine ylv (fun f v i σ => l_X6_bits_4 (fun (r1_2 : Int32) (σ1 : MM) => some (r1_2, σ1)) F (nI k) f v i σ) (fun v σ => some (v, σ)) (fun i => nI (sm (fun i => if k.testBit i = true then 1 else 0) i)) σ 12 (fun f i hi => ?_) (fun f => ?_) (f := F) (by omega)
  · (try dsimp only)
    rw [l_X6_bits_4.eq_2, if_pos (show nI i < 12 from nI_lt (b := 12) hi (by decide)), bx_bit hk (by omega), nI_add, nI_1]
    rfl
  · (try dsimp only)
    rw [l_X6_bits_4.eq_2, if_neg (by decide)]
theorem bc_eq1 : ∀ a, a < 64 → ∀ b, b < 64 → (g_J6_bitCount 0 σ0 (nI (64 * a + b))).map (fun q => q.1) = some (nI (pop (64 * a + b))) := by decide +kernel
theorem bc_eq0 (k : Nat) (hk : k < 4096) : (g_J6_bitCount 0 σ0 (nI k)).map (fun q => q.1) = some (nI (pop k)) := by
  have h := bc_eq1 (k / 64) (by omega) (k % 64) (by omega)
  rw [show 64 * (k / 64) + k % 64 = k by omega] at h
  exact h
theorem bc_eq {F : Nat} {σ : MM} {k : Nat} (hk : k < 4096) : g_J6_bitCount F σ (nI k) = some (nI (pop k), σ) := by
  have h := bc_eq0 k hk
  unfold g_J6_bitCount at h ⊢
  have h := Option.some.inj h
  rw [← h]
