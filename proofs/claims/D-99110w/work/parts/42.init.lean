/-! THE MEMORY AFTER BOTH CONSTRUCTORS -/
def st1 : MM := (g_X0_init 0 (nO σ0 (0, 22)) 1).getD σ0
def st2 : MM := (g_X6_init 0 (nO st1 (5, 62)) 85).getD σ0
theorem st1_eq (F : Nat) : g_X0_init F (nO σ0 (0, 22)) 1 = some st1 := by
  have h : (g_X0_init 0 (nO σ0 (0, 22)) 1).isSome = true := by decide +kernel
  obtain ⟨x, hx⟩ := Option.isSome_iff_exists.mp h
  have e : st1 = x := by unfold st1; rw [hx]; rfl
  rw [e]
  exact hx
theorem st1_N : mN st1 = 84 := by decide +kernel
theorem st2_eq (F : Nat) : g_X6_init F (nO st1 (5, 62)) 85 = some st2 := by
  have h : (g_X6_init 0 (nO st1 (5, 62)) 85).isSome = true := by decide +kernel
  obtain ⟨x, hx⟩ := Option.isSome_iff_exists.mp h
  have e : st2 = x := by unfold st2; rw [hx]; rfl
  rw [e]
  exact hx
theorem st2_N : mN st2 = 122 := by decide +kernel
theorem st2_T : ∀ a, a < 123 → mT st2 a = tT a := by decide +kernel
theorem st2_lay : lay st2 := ⟨by rw [st2_N]; decide, st2_T, by decide +kernel⟩
