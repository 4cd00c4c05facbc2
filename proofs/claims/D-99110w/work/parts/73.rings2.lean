/-! RINGS COUNTED; WHO IS OFF -/
theorem rS_self {d : Nat → Nat → Nat} {p : Nat} (hp : p < 10) : (rS d p).testBit p = true := (rS_is hp).2.1
theorem rS_trans {d : Nat → Nat → Nat} {p q r : Nat} (hp : p < 10) (hq : q < 10) (h1 : (rS d p).testBit q = true) (h2 : (rS d q).testBit r = true) : (rS d p).testBit r = true := (rS_is hq).2.2.2 _ h1 (rS_is hp).2.2.1 r h2
theorem ringB_self {d : Nat → Nat → Nat} {p : Nat} (hp : p < 10) : ringB d p p = true := by unfold ringB; rw [rS_self hp]; rfl
theorem ringB_iff {d : Nat → Nat → Nat} {p q : Nat} : ringB d p q = true ↔ (rS d p).testBit q = true ∧ (rS d q).testBit p = true := by unfold ringB; rw [Bool.and_eq_true]
theorem ringB_symm {d : Nat → Nat → Nat} {p q : Nat} (h : ringB d p q = true) : ringB d q p = true := ringB_iff.mpr ⟨(ringB_iff.mp h).2, (ringB_iff.mp h).1⟩
theorem ringB_trans {d : Nat → Nat → Nat} {p q r : Nat} (hp : p < 10) (hq : q < 10) (hr : r < 10) (h1 : ringB d p q = true) (h2 : ringB d q r = true) : ringB d p r = true :=
  ringB_iff.mpr ⟨rS_trans hp hq (ringB_iff.mp h1).1 (ringB_iff.mp h2).1, rS_trans hr hq (ringB_iff.mp h2).2 (ringB_iff.mp h1).2⟩
section RINGC
variable (d : Nat → Nat → Nat) (t : Nat)
noncomputable def leftN : Nat → Nat
  | 0 => t
  | i + 1 => if (leftN i).testBit i = true then less (leftN i) (ringN d i 10) else leftN i
theorem leftN_lt (ht : t < 1024) : ∀ i, leftN d t i < 1024
  | 0 => ht
  | i + 1 => by
    have ih := leftN_lt ht i
    show (if (leftN d t i).testBit i = true then less (leftN d t i) (ringN d i 10) else leftN d t i) < 1024
    by_cases c : (leftN d t i).testBit i = true
    · rw [if_pos c]; exact less_lt (n := 10) ih
    · rw [if_neg c]; exact ih
theorem leftN_bit : ∀ i, i ≤ 10 → ∀ q, q < 10 → ((leftN d t i).testBit q = true ↔ t.testBit q = true ∧ ∀ p, p < i → t.testBit p = true → ¬ ringB d p q = true)
  | 0, _, q, hq => ⟨fun h => ⟨h, fun p hp => absurd hp (Nat.not_lt_zero p)⟩, fun h => h.1⟩
  | i + 1, hi, q, hq => by
    have ih := fun q hq => leftN_bit i (by omega) q hq
    show (if (leftN d t i).testBit i = true then less (leftN d t i) (ringN d i 10) else leftN d t i).testBit q = true ↔ _
    by_cases c : (leftN d t i).testBit i = true
    · have ci := (ih i (by omega)).mp c
      rw [if_pos c, less_bit, Bool.and_eq_true, Bool.not_eq_true', ih q hq]
      have hr : (ringN d i 10).testBit q = false ↔ ¬ ringB d i q = true := by
        rw [← Bool.not_eq_true, ringN_bit]
        exact ⟨fun h u => h ⟨hq, u⟩, fun h u => h u.2⟩
      rw [hr]
      constructor
      · rintro ⟨⟨u1, u2⟩, u3⟩
        refine ⟨u1, fun p hp tp => ?_⟩
        by_cases e : p = i
        · subst e; exact u3
        · exact u2 p (by omega) tp
      · rintro ⟨u1, u2⟩
        exact ⟨⟨u1, fun p hp tp => u2 p (by omega) tp⟩, u2 i (by omega) ci.1⟩
    · rw [if_neg c, ih q hq]
      constructor
      · rintro ⟨u1, u2⟩
        refine ⟨u1, fun p hp tp r => ?_⟩
        by_cases e : p = i
        · subst e
          refine c ((ih p (by omega)).mpr ⟨tp, fun p' hp' tp' r' => ?_⟩)
          exact u2 p' hp' tp' (ringB_trans (by omega) (by omega) hq r' r)
        · exact u2 p (by omega) tp r
      · rintro ⟨u1, u2⟩
        exact ⟨u1, fun p hp tp => u2 p (by omega) tp⟩
theorem mod_bits {k p : Nat} : k % 2 ^ p = 0 ↔ ∀ j, j < p → ¬ k.testBit j = true := by
  constructor
  · intro h j hj hb
    have := Nat.testBit_mod_two_pow k p j
    rw [h, Nat.zero_testBit, hb, decide_eq_true hj] at this
    exact Bool.noConfusion this
  · intro h
    apply Nat.eq_of_testBit_eq
    intro j
    rw [Nat.testBit_mod_two_pow, Nat.zero_testBit]
    by_cases c : j < p
    · rw [Bool.eq_false_iff.mpr (h j c), Bool.and_false]
    · rw [decide_eq_false c, Bool.false_and]
/-- the least of its ring -/
noncomputable def leadN (p : Nat) : Nat := if (leftN d t p).testBit p = true then 1 else 0
theorem lead_iff (hr : ∀ p q, p < 10 → t.testBit p = true → (rS d p).testBit q = true → t.testBit q = true) {p : Nat} (hp : p < 10) : (leftN d t p).testBit p = true ↔ t.testBit p = true ∧ ((ringN d p 10).testBit p = true ∧ ringN d p 10 % 2 ^ p = 0) := by
  rw [leftN_bit d t p (by omega) p hp, mod_bits]
  have sp : (ringN d p 10).testBit p = true := (ringN_bit 10 p).mpr ⟨hp, ringB_self hp⟩
  constructor
  · rintro ⟨u1, u2⟩
    refine ⟨u1, sp, fun j hj hb => ?_⟩
    exact u2 j hj (hr p j hp u1 (ringB_iff.mp ((ringN_bit 10 j).mp hb).2).1) (ringB_symm ((ringN_bit 10 j).mp hb).2)
  · rintro ⟨u1, -, u2⟩
    exact ⟨u1, fun p' hp' tp' r => u2 p' hp' ((ringN_bit 10 p').mpr ⟨by omega, ringB_symm r⟩)⟩
end RINGC
section RINGD
variable {B F : Nat} {G : GG}
theorem call_rings (hG : GW B G) (hF : 100000 ≤ F) (a : Int32) : Call B G (fun σ => g_X0_rings F σ 1 a) (fun τ => g_X6_rings F τ 85 a) := by
  unfold g_X0_rings g_X6_rings
  have hr : ∀ p q, p < 10 → G.t.testBit p = true → (rS G.S.1 p).testBit q = true → G.t.testBit q = true := fun p q hp tp hq => reach_told hG.2.2.1 hp tp hq
  have ht := hG.1
  by_cases c : a = 100
  · refine call_same hG (nI (sm (leadN G.S.1 G.t) 10)) (fun σ h => ⟨σ, ?_, kj.refl⟩) (fun τ h => ?_)
    · have l := h.l
      (try dsimp only)
      rw [if_pos (T1 l), if_pos c]
      refine ylv (fun f v i σ => l_X0_rings_28 (fun (r2_11 : Int32) (σ10 : MM) => some (r2_11, σ10)) F 1 f v i σ) (fun v σ => some (v, σ)) (fun i => nI (sm (leadN G.S.1 G.t) i)) σ 10 (fun f i hi => ?_) (fun f => ?_) (f := F) (by omega)
      · (try dsimp only)
        have e : sm (leadN G.S.1 G.t) (i + 1) = sm (leadN G.S.1 G.t) i + leadN G.S.1 G.t i := rfl
        have li := lead_iff G.S.1 G.t hr hi
        rw [l_X0_rings_28.eq_2, if_pos (ten_in hi), nI_1]
        by_cases ti : G.t.testBit i = true
        · obtain ⟨v, n1, n2⟩ := ntz_some F σ (nI (ringN G.S.1 i 10))
          have n3 := ntz_eq (ringN G.S.1 i 10) (ringN_lt 10 (Nat.le_refl _)) i hi
          rw [n2] at n3
          rw [told_yes l h.1.2.2 hi ti, bq_some, jn_eq, if_neg (by decide), e_X0_ringOf hG h hi hF, bq_some, n1, bq_some]
          (try dsimp only)
          by_cases cv : v = nI i
          · have : (leftN G.S.1 G.t i).testBit i = true := li.mpr ⟨ti, n3.mp (by rw [cv])⟩
            rw [if_pos cv, e]
            unfold leadN
            rw [if_pos this, nI_1]
          · have : ¬ (leftN G.S.1 G.t i).testBit i = true := fun q => cv (Option.some.inj (n3.mpr (li.mp q).2))
            rw [if_neg cv, e]
            unfold leadN
            rw [if_neg this, show (0 : Int32) = nI 0 from rfl, nI_add]
        · have : ¬ (leftN G.S.1 G.t i).testBit i = true := fun q => ti (li.mp q).1
          rw [told_no l h.1.2.2 (fun p hp h1 h2 => ti (by rw [(nI_eq (by omega) (by omega)).mp h2]; exact h1)), bq_some, jn_eq, if_pos rfl, e]
          (try dsimp only)
          unfold leadN
          rw [if_neg this, show (0 : Int32) = nI 0 from rfl, nI_add]
      · (try dsimp only)
        rw [l_X0_rings_28.eq_2, if_neg ten_no]
    · have l := h.l
      have hm : mI τ 85 5 = nI G.t := h.1.2.2.1
      (try dsimp only)
      rw [if_pos (T85 l), if_pos c, gI_T (T85 l), Option.bind_some, hm]
      obtain ⟨v, s, ⟨hk, hv⟩, he⟩ := yl2 (fun f (v : Int32 × Int32) i σ => l_X6_rings_34 (fun (r3_7 : Int32) (σ6 : MM) => some (r3_7, σ6)) F 85 f v.1 v.2 i σ) (fun v σ => some (v.2, σ)) (fun i v s => kp (fun x => x = 110) τ s ∧ v = (nI (leftN G.S.1 G.t i), nI (sm (leadN G.S.1 G.t) i))) 10 (by
        intro f i v s hi ⟨hk, hv⟩
        subst hv
        have hs := h.s (hk.j (R := rSM) (fun x y q => by have q : x = 110 := q; unfold rSM; omega)) (fun _ _ q => q)
        have e : sm (leadN G.S.1 G.t) (i + 1) = sm (leadN G.S.1 G.t) i + leadN G.S.1 G.t i := rfl
        have eT : (leftN G.S.1 G.t i).testBit i = true → leftN G.S.1 G.t (i + 1) = less (leftN G.S.1 G.t i) (ringN G.S.1 i 10) := fun q => if_pos q
        have eF : ¬ (leftN G.S.1 G.t i).testBit i = true → leftN G.S.1 G.t (i + 1) = leftN G.S.1 G.t i := fun q => if_neg q
        (try dsimp only)
        rw [l_X6_rings_34.eq_2, if_pos (ten_in hi), nI_1, e_hasM (Nat.lt_trans (leftN_lt G.S.1 G.t ht i) (by decide)) (by omega), bq_some, e]
        by_cases c : (leftN G.S.1 G.t i).testBit i = true
        · have ti := ((lead_iff G.S.1 G.t hr hi).mp c).1
          obtain ⟨s2, e2, k2⟩ := e_X6_ringOf hG hs hi ti hF
          rw [if_pos c, if_neg (by decide), e2, bq_some, bx_less, nI_1, eT c]
          refine ⟨_, s2, ⟨hk.trans k2, rfl⟩, ?_⟩
          unfold leadN
          rw [if_pos c]
        · rw [if_neg c, if_pos rfl, eF c]
          refine ⟨_, s, ⟨hk, rfl⟩, ?_⟩
          unfold leadN
          rw [if_neg c]
          rfl) (by
        intro f v s _
        (try dsimp only)
        rw [l_X6_rings_34.eq_2, if_neg ten_no]) (f := F) (v := (nI G.t, 0)) (by omega) ⟨kp.refl, rfl⟩
      refine ⟨s, he.trans ?_, hk.j (fun x y q => by have q : x = 110 := q; unfold rSM; omega)⟩
      rw [hv]
  · rcases told_is (x := a) hG with ⟨p, hp, tp, rfl⟩ | ⟨n1, n2⟩
    · refine call_same hG (nI (ringN G.S.1 p 10)) (fun σ h => ⟨σ, ?_, kj.refl⟩) (fun τ h => ?_)
      · (try dsimp only)
        rw [if_pos (T1 h.l), if_neg c, told_yes h.l h.1.2.2 hp tp, bq_some, if_neg (by decide), e_X0_ringOf hG h hp hF, bq_some]
      · obtain ⟨s, e, k⟩ := e_X6_ringOf hG h hp tp hF
        refine ⟨s, ?_, k.j (fun x y q => by have q : x = 110 := q; unfold rSM; omega)⟩
        (try dsimp only)
        rw [if_pos (T85 h.l), if_neg c, person_yes h.l h.1.2.2 hp tp, bq_some, if_neg (by decide), e, bq_some]
    · refine call_look hG (-1) (fun σ h => ?_) (fun τ h => ?_)
      · (try dsimp only)
        rw [if_pos (T1 h.l), if_neg c, n1 F σ h, bq_some, if_pos rfl]
      · (try dsimp only)
        rw [if_pos (T85 h.l), if_neg c, n2 F τ h, bq_some, if_pos rfl]
theorem call_off (hG : GW B G) (hF : 100000 ≤ F) : Call B G (fun σ => g_X0_off F σ 1) (fun τ => g_X6_off F τ 85) := by
  unfold g_X0_off g_X6_off
  by_cases c : G.S.2.2.2 0 < 10
  · refine call_same hG (nI (less G.t (rS G.S.1 (G.S.2.2.2 0)))) (fun σ h => ⟨σ, ?_, kj.refl⟩) (fun τ h => ?_)
    · have h3 : mI σ 5 3 = nI (G.S.2.2.2 0) := by rw [h.2.1.2.2.2.1, pv_lt c]
      have hm : mI σ 1 2 = nI G.t := h.1.2.2.1
      have l := h.l
      (try dsimp only)
      rw [if_pos (T1 l), gP_T (T1 l), Option.bind_some, P1_4 l, gI_T (T5 l), Option.bind_some, h3, if_neg (by rw [← pv_lt c]; exact pv_ne c), gI_T (T1 l), Option.bind_some, hm, Option.bind_some, dbP l d5, Option.bind_some, Option.bind_some, gI_T (T5 l), Option.bind_some, h3, e_X4_reach' (d5.B l) h.2.1.1 hG.2.2.1.b99 c hF, bq_some, bx_less]
    · have h3 : mI τ 86 151 = nI (G.S.2.2.2 0) := by rw [h.2.1.2.2.2.1, qv_lt c]
      have hm : mI τ 85 5 = nI G.t := h.1.2.2.1
      have l := h.l
      have ha : aI τ 86 20 151 = some (nI (G.S.2.2.2 0)) := by rw [a151 l, h3]
      obtain ⟨s, e, k⟩ := e_X6_reachOf (F := F) l h.2.1.1 hG.2.2.1.b99 c hF
      refine ⟨s, ?_, k.j (fun x y q => by have q : x = 110 := q; unfold rSM; omega)⟩
      (try dsimp only)
      rw [if_pos (T85 l), gN l, Option.bind_some, ha, Option.bind_some, if_neg (nI_pos (by omega)), gI_T (T85 l), Option.bind_some, hm, Option.bind_some, ha, Option.bind_some, e, bq_some, bx_less]
  · have h10 : G.S.2.2.2 0 = 10 := by have := hG.2.2.1.2.2.1; omega
    refine call_look hG (-2) (fun σ h => ?_) (fun τ h => ?_)
    · have l := h.l
      (try dsimp only)
      rw [if_pos (T1 l), gP_T (T1 l), Option.bind_some, P1_4 l, gI_T (T5 l), Option.bind_some, h.2.1.2.2.2.1, h10, if_pos pv_10]
    · have l := h.l
      (try dsimp only)
      rw [if_pos (T85 l), gN l, Option.bind_some, a151 l, Option.bind_some, h.2.1.2.2.2.1, h10, if_pos (show qv 10 < 0 by decide)]
end RINGD
