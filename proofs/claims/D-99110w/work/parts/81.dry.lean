/-! DRY DAYS -/
theorem gcd_half {b c : Nat} (h0 : 0 < c) (h : c < b) : 2 * (b % c) < b := by
  have h1 := Nat.mod_lt b h0
  by_cases q : 2 * c ≤ b
  · omega
  · have : b % c = b - c := by
      rw [Nat.mod_eq_sub_mod (by omega), Nat.mod_eq_of_lt (by omega)]
    omega
theorem divisor_ok (F : Nat) (σ : MM) : ∀ k f a b : Nat, 2 * k < f → a < 2147483648 → b < 2 ^ k → k ≤ 31 → r_X0_divisor F f σ (nI a) (nI b) = some (nI (Nat.gcd b a), σ) := by
  have step : ∀ f a b : Nat, a < 2147483648 → b < 2147483648 → r_X0_divisor F (f + 1) σ (nI a) (nI b) = if b = 0 then some (nI a, σ) else bq (r_X0_divisor F f σ (nI b) (nI (a % b))) fun v3 σ2 => some (v3, σ2) := by
    intro f a b ha hb
    show s_X0_divisor F (r_X0_divisor F f) σ (nI a) (nI b) = _
    unfold s_X0_divisor
    by_cases c : b = 0
    · rw [if_pos c, if_pos (by rw [c]; rfl)]
    · rw [if_neg c, if_neg (nI_ne0 (by omega) hb), rm_nI ha hb (by omega), Option.bind_some]
  intro k
  induction k with
  | zero =>
    intro f a b hf ha hb _
    obtain ⟨f, rfl⟩ : ∃ g, f = g + 1 := ⟨f - 1, by omega⟩
    have : b = 0 := by omega
    subst this
    rw [step f a 0 ha (by decide), if_pos rfl, Nat.gcd_zero_left]
  | succ k ih =>
    intro f a b hf ha hb hk
    have b31 : 2 ^ (k + 1) ≤ 2 ^ 31 := Nat.pow_le_pow_right (by decide) hk
    have e31 : (2 : Nat) ^ 31 = 2147483648 := rfl
    obtain ⟨f, rfl⟩ : ∃ g, f = g + 1 + 1 := ⟨f - 2, by omega⟩
    rw [step (f + 1) a b ha (by omega)]
    by_cases c : b = 0
    · rw [if_pos c, c, Nat.gcd_zero_left]
    · have hm := Nat.mod_lt a (show 0 < b by omega)
      rw [if_neg c, step f b (a % b) (by omega) (by omega)]
      by_cases c2 : a % b = 0
      · rw [if_pos c2, bq_some, Nat.gcd_rec, c2, Nat.gcd_zero_left]
      · have h2 := gcd_half (show 0 < a % b by omega) hm
        rw [Nat.pow_succ] at hb
        rw [if_neg c2, ih f (a % b) (b % (a % b)) (by omega) (by omega) (by omega) (by omega), bq_some, bq_some, Nat.gcd_rec b a, Nat.gcd_rec (a % b) b]
theorem gcd_ok (F : Nat) (σ : MM) (K : Int32 → MM → Option (Int32 × MM)) : ∀ k f a b : Nat, 2 * k < f → a < 2147483648 → b < 2 ^ k → k ≤ 31 → l_X6_gcd_4 K F f (nI a) (nI b) σ = K (nI (Nat.gcd b a)) σ := by
  have step : ∀ f a b : Nat, a < 2147483648 → b < 2147483648 → l_X6_gcd_4 K F (f + 1) (nI a) (nI b) σ = if b = 0 then K (nI a) σ else l_X6_gcd_4 K F f (nI b) (nI (a % b)) σ := by
    intro f a b ha hb
    rw [l_X6_gcd_4.eq_2]
    by_cases c : b = 0
    · rw [if_pos c, if_pos (by rw [c]; rfl)]
    · rw [if_neg c, if_neg (nI_ne0 (by omega) hb), rm_nI ha hb (by omega), Option.bind_some]
  intro k
  induction k with
  | zero =>
    intro f a b hf ha hb _
    obtain ⟨f, rfl⟩ : ∃ g, f = g + 1 := ⟨f - 1, by omega⟩
    have : b = 0 := by omega
    subst this
    rw [step f a 0 ha (by decide), if_pos rfl, Nat.gcd_zero_left]
  | succ k ih =>
    intro f a b hf ha hb hk
    have b31 : 2 ^ (k + 1) ≤ 2 ^ 31 := Nat.pow_le_pow_right (by decide) hk
    have e31 : (2 : Nat) ^ 31 = 2147483648 := rfl
    obtain ⟨f, rfl⟩ : ∃ g, f = g + 1 + 1 := ⟨f - 2, by omega⟩
    rw [step (f + 1) a b ha (by omega)]
    by_cases c : b = 0
    · rw [if_pos c, c, Nat.gcd_zero_left]
    · have hm := Nat.mod_lt a (show 0 < b by omega)
      rw [if_neg c, step f b (a % b) (by omega) (by omega)]
      by_cases c2 : a % b = 0
      · rw [if_pos c2, Nat.gcd_rec, c2, Nat.gcd_zero_left]
      · have h2 := gcd_half (show 0 < a % b by omega) hm
        rw [Nat.pow_succ] at hb
        rw [if_neg c2, ih f (a % b) (b % (a % b)) (by omega) (by omega) (by omega) (by omega), Nat.gcd_rec b a, Nat.gcd_rec (a % b) b]
section DRY
variable {B F : Nat} {G : GG}
theorem call_dry (hG : GW B G) (hB : B < 900000) (hF : 100000 ≤ F) (a w : Int32) : Call B G (fun σ => g_X0_dry F σ 1 a w) (fun τ => g_X6_dry F τ 85 a w) := by
  unfold g_X0_dry g_X6_dry
  have e1 : (1 : Int32) = nI 1 := rfl
  have e9 : (9 : Int32) = nI 9 := rfl
  rcases within_is (x := a) (l := 1) (m := 9) (by decide) (by decide) with ⟨n, hn1, hn, rfl, y1, y2⟩ | ⟨n1, n2⟩
  · rcases in_is (x := w) (n := 2) (by decide) (by decide) with ⟨k, hk, rfl⟩ | ⟨m1, m2⟩
    · have hh := heldN_eq (v := tellsS G.L 114 (fx0 0 (G.S.2.2.2 5))) (m := 10) (by decide)
      obtain ⟨r, hr⟩ : ∃ r, heldN (tellsS G.L 114 (fx0 0 (G.S.2.2.2 5))) 10 = r := ⟨_, rfl⟩
      rw [hr] at hh
      have t10 : (10 : Int32) - nI r = nI (10 - r) := by rw [show (10 : Int32) = nI 10 from rfl, nI_sub hh.2]
      have b1 : (10 - r) ^ n ≤ 10 ^ 9 := Nat.le_trans (Nat.pow_le_pow_left (show 10 - r ≤ 10 by omega) n) (Nat.pow_le_pow_right (by decide) hn)
      have b2 : 10 ^ n ≤ 10 ^ 9 := Nat.pow_le_pow_right (by decide) hn
      have b3 : 0 < 10 ^ n := Nat.pow_pos (by decide)
      have g0 : 0 < Nat.gcd (10 ^ n) ((10 - r) ^ n) := Nat.gcd_pos_of_pos_left _ b3
      have gl : Nat.gcd (10 ^ n) ((10 - r) ^ n) ≤ 10 ^ n := Nat.gcd_le_left _ b3
      have pb : ∀ i, i < n → (10 - r) ^ i ≤ 10 ^ 9 ∧ 10 ^ i ≤ 10 ^ 9 := fun i hi => ⟨Nat.le_trans (Nat.pow_le_pow_left (show 10 - r ≤ 10 by omega) i) (Nat.pow_le_pow_right (by decide) (by omega)), Nat.pow_le_pow_right (by decide) (by omega)⟩
      refine call_same hG (if k = 0 then nI ((10 - r) ^ n / Nat.gcd (10 ^ n) ((10 - r) ^ n)) else nI (10 ^ n / Nat.gcd (10 ^ n) ((10 - r) ^ n))) (fun σ h => ?_) (fun τ h => ?_)
      · have l := h.l
        obtain ⟨s1, f1, k1, u1⟩ := e_X2_at0 (F := F) (x := 0) (y := G.S.2.2.2 5) l
        have k1j := k1.j (R := rSC) (fun x y q => Or.inl q)
        have h1 := h.s k1j (fun _ _ q => q)
        obtain ⟨s2, k2, f2⟩ := e_X2_tells (F := F) (c := 114) (most := 10) (by decide) h1.1.2.1 hF (kt.refl h1.l) rfl
        have k2j := k2.1.j (R := rSC) (fun x y q => Or.inl q)
        have h8 : mI σ 5 8 = nI (G.S.2.2.2 5) := h.2.1.2.2.2.2.2.2.2.1
        refine ⟨s2, ?_, k1j.trans k2j⟩
        (try dsimp only)
        rw [if_pos (T1 l), show g_X0_within F σ (nI n) 1 9 = _ from y1 F σ, bq_some, if_neg (by decide), show g_X0_in F σ (nI k) 2 = _ from in_yes (n := 2) hk (by decide), bq_some, if_neg (by decide), gP_T (T1 l), Option.bind_some, P1_3 l, gP_T (T1 l), Option.bind_some, P1_4 l, gI_T (T5 l), Option.bind_some, h8, show (0 : Int32) = nI 0 from rfl, f1, bq_some, f2, bq_some, u1, show (10 : Int32) = nI 10 from rfl, hh.1, ← show (10 : Int32) = nI 10 from rfl, t10]
        have lp := ylv (fun f (v : Int32 × Int32) i σ => l_X0_dry_55 (fun (r4_13 : Int32) (r5_14 : Int32) (σ12 : MM) => bq (g_X0_divisor F σ12 r4_13 r5_14) fun v16 σ15 => if nI k = nI 0 then ((dv r4_13 v16).bind fun v18 => some (v18, σ15)) else ((dv r5_14 v16).bind fun v17 => some (v17, σ15))) F (nI n) (nI k) (nI (10 - r)) f v.1 v.2 i σ) (fun v σ12 => bq (g_X0_divisor F σ12 v.1 v.2) fun v16 σ15 => if nI k = nI 0 then ((dv v.1 v16).bind fun v18 => some (v18, σ15)) else ((dv v.2 v16).bind fun v17 => some (v17, σ15))) (fun i => (nI ((10 - r) ^ i), nI (10 ^ i))) s2 n (fun f i hi => by
          (try dsimp only)
          rw [l_X0_dry_55.eq_2, if_pos (nI_lt hi (by omega)), nI_mul, show (10 : Int32) = nI 10 from rfl, nI_mul, nI_1]
          rfl) (fun f => by
          (try dsimp only)
          rw [l_X0_dry_55.eq_2, if_neg (nI_nlt (Nat.le_refl _) (by omega))]) (f := F) (by omega)
        refine lp.trans ?_
        (try dsimp only)
        unfold g_X0_divisor
        rw [divisor_ok F s2 30 64 _ _ (by decide) (by omega) (by omega) (by decide), bq_some]
        by_cases c : k = 0
        · rw [if_pos (by rw [c]), if_pos c, dv_nI (by omega) (by omega) g0, Option.bind_some]
        · rw [if_neg (show ¬ nI k = nI 0 from nI_ne0 (by omega) (by omega)), if_neg c, dv_nI (by omega) (by omega) g0, Option.bind_some]
      · have l := h.l
        have h8 : mI τ 86 156 = nI (G.S.2.2.2 5) := h.2.1.2.2.2.2.2.2.2.2.1
        obtain ⟨s2, k2, f2⟩ := e_X6_rainBy (F := F) h.1.2.1 (kcod.refl l) h8 hF
        have er : rainS G.L (G.S.2.2.2 5) = nI r := hh.1
        refine ⟨s2, ?_, k2.j (fun x y q => by unfold rSM; omega)⟩
        (try dsimp only)
        rw [if_pos (T85 l), show g_X6_in F τ (nI n) 1 9 = _ from y2 F τ, bq_some, if_neg (by decide), show g_X6_in F τ (nI k) 0 1 = _ from inM_yes (m := 1) (by omega) (by decide), bq_some, if_neg (by decide), f2, bq_some, er, t10]
        have lp := ylv (fun f (v : Int32 × Int32) i σ => l_X6_dry_38 (fun (r4_8 : Int32) (r5_9 : Int32) (σ7 : MM) => bq (g_X6_gcd F σ7 r4_8 r5_9) fun v11 σ10 => if nI k = 0 then ((dv r4_8 v11).bind fun v13 => some (v13, σ10)) else ((dv r5_9 v11).bind fun v12 => some (v12, σ10))) F (nI n) (nI k) (nI (10 - r)) f v.1 v.2 i σ) (fun v σ7 => bq (g_X6_gcd F σ7 v.1 v.2) fun v11 σ10 => if nI k = 0 then ((dv v.1 v11).bind fun v13 => some (v13, σ10)) else ((dv v.2 v11).bind fun v12 => some (v12, σ10))) (fun i => (nI ((10 - r) ^ i), nI (10 ^ i))) s2 n (fun f i hi => by
          (try dsimp only)
          rw [l_X6_dry_38.eq_2, if_pos (nI_lt hi (by omega)), nI_mul, show (10 : Int32) = nI 10 from rfl, nI_mul, nI_1]
          rfl) (fun f => by
          (try dsimp only)
          rw [l_X6_dry_38.eq_2, if_neg (nI_nlt (Nat.le_refl _) (by omega))]) (f := F) (by omega)
        refine lp.trans ?_
        (try dsimp only)
        unfold g_X6_gcd
        rw [gcd_ok F s2 _ 30 F _ _ (by omega) (by omega) (by omega) (by decide), bq_some]
        by_cases c : k = 0
        · rw [if_pos (by rw [c]; rfl), if_pos c, dv_nI (by omega) (by omega) g0, Option.bind_some]
        · rw [if_neg (nI_ne0 (by omega) (by omega)), if_neg c, dv_nI (by omega) (by omega) g0, Option.bind_some]
    · refine call_look hG (-1) (fun σ h => ?_) (fun τ h => ?_)
      · (try dsimp only)
        rw [if_pos (T1 h.l), show g_X0_within F σ (nI n) 1 9 = _ from y1 F σ, bq_some, if_neg (by decide), show g_X0_in F σ w 2 = _ from m1 F σ, bq_some, if_pos rfl]
      · (try dsimp only)
        rw [if_pos (T85 h.l), show g_X6_in F τ (nI n) 1 9 = _ from y2 F τ, bq_some, if_neg (by decide), show g_X6_in F τ w 0 1 = _ from m2 F τ, bq_some, if_pos rfl]
  · refine call_look hG (-1) (fun σ h => ?_) (fun τ h => ?_)
    · (try dsimp only)
      rw [if_pos (T1 h.l), show g_X0_within F σ a 1 9 = _ from n1 F σ, bq_some, if_pos rfl]
    · (try dsimp only)
      rw [if_pos (T85 h.l), show g_X6_in F τ a 1 9 = _ from n2 F τ, bq_some, if_pos rfl]
end DRY
