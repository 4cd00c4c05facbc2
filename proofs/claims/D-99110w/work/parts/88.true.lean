theorem law_true {L : Nat} {xs : Nat → Int32} (hL : L ≤ 384) : ∃ (F : Nat) (σf : MM) (kf nf : Nat), g_L_law F L xs σ0 = some ((1 : Int32), σf, kf, nf) := by
  sorry
