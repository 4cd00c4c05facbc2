/-! WHO CAN BE COME TO; RINGS -/
noncomputable def rS (d : Nat → Nat → Nat) (p : Nat) : Nat := (Classical.propDecidable (∃ r, isReach d p r)).byCases (fun h => Classical.choose h) (fun _ => 0)
theorem rS_eq {d : Nat → Nat → Nat} {p r : Nat} (h : isReach d p r) : rS d p = r := by
  have e : ∃ r, isReach d p r := ⟨r, h⟩
  unfold rS Decidable.byCases
  cases Classical.propDecidable (∃ r, isReach d p r) with
  | isTrue q => exact (Classical.choose_spec q).uniq h
  | isFalse q => exact absurd e q
/-- there is such a set -/
theorem reach_ex {d : Nat → Nat → Nat} {p : Nat} (hp : p < 10) : ∃ r, isReach d p r := by
  have key : ∀ (n s : Nat), 1024 - s ≤ n → s < 1024 → s.testBit p = true → (∀ s', s'.testBit p = true → closed d s' → sub_ s s') → ∃ r, isReach d p r := by
    intro n
    induction n with
    | zero => intro s h1 h2 _ _; omega
    | succ n ih =>
      intro s h1 h2 h3 h4
      by_cases c : nxo d s 10 = s
      · exact ⟨s, h2, h3, nxo_closed h2 c, h4⟩
      · have le := (nxo_sub (d := d) (s := s)).le
        refine ih (nxo d s 10) (by omega) (nxo_lt h2 10) (nxo_sub _ h3) (fun s' u1 u2 i hi => ?_)
        rcases (nxo_bit 10 i).mp hi with q | ⟨i10, a, ha, q1, q2⟩
        · exact h4 s' u1 u2 i q
        · exact u2 a ha i i10 (h4 s' u1 u2 a q1) q2
  refine key 1024 (2 ^ p) (Nat.sub_le _ _) (Nat.pow_lt_pow_right (n := 10) (by decide) hp) (by rw [bit_one]; exact decide_eq_true rfl) (fun s' u1 u2 i hi => ?_)
  rw [bit_one] at hi
  rw [← of_decide_eq_true hi]
  exact u1
theorem rS_is {d : Nat → Nat → Nat} {p : Nat} (hp : p < 10) : isReach d p (rS d p) := by
  obtain ⟨r, h⟩ := reach_ex (d := d) hp
  rw [rS_eq h]
  exact h
theorem e_X4_reach' {σ : MM} {F Q p : Nat} {d : Nat → Nat → Nat} (hB : isB σ Q) (hd : hasD σ Q d) (h9 : b99 d) (hp : p < 10) (hF : 100000 ≤ F) : g_X4_reach F σ Q (nI p) = some (nI (rS d p), σ) := by
  obtain ⟨r, h1, h2⟩ := e_X4_reach (F := F) hB hd h9 hp (by omega)
  rw [rS_eq h1]
  exact h2
/-- the model's debts laid out -/
theorem left_load {σ : MM} {d : Nat → Nat → Nat} (l : lay σ) (hd : hasL σ 86 d) (L : Nat → Int32 → MM → Option (Int32 × MM)) (E : MM → Option (Int32 × MM)) (h1 : ∀ f z σ, L (f + 1) z σ = if z < 100 then ((gP σ 85 5 62 46).bind fun p1 => (gP σ 85 5 62 0).bind fun p2 => (aI σ p2 20 ((0 + z))).bind fun v3 => (sI σ p1 z v3).bind fun σ4 => L f ((z + 1)) σ4) else (E σ)) {F : Nat} (hF : 100 < F) : ∃ σ', kp (fun x => x = 110) σ σ' ∧ hasL σ' 110 d ∧ L F 0 σ = E σ' := by
  obtain ⟨s, ⟨hk, hh⟩, he⟩ := yl1 L E (fun i s => kp (fun x => x = 110) σ s ∧ ∀ k, k < i → mI s 110 k = mI σ 86 k) 100 (by
    intro f i s hi ⟨hk, hh⟩
    have ls := hk.ly l
    refine ⟨wI s 110 i (mI σ 86 i), ⟨hk.trans (kp.w rfl), fun k hk9 => ?_⟩, ?_⟩
    · by_cases c : k = i
      · subst c; exact mI_ws
      · rw [mI_wy c]; exact hh k (by omega)
    · rw [h1, if_pos (show nI i < 100 from nI_lt (b := 100) hi (by decide)), gP_T (T85 ls), Option.bind_some, P85_46 ls, gN ls, Option.bind_some, show (0 : Int32) = nI 0 from rfl, nI_add, Nat.zero_add, aN ls (by omega), Option.bind_some, hk.2 86 (by decide), sI_T (by rw [T110 ls]) (by rw [T110 ls]; exact hi) (by rw [T110 ls]; decide), Option.bind_some, nI_1]) (by
    intro f s _
    rw [h1, if_neg (by decide)]) (f := F) (by omega) ⟨kp.refl, fun k hk9 => absurd hk9 (Nat.not_lt_zero k)⟩
  refine ⟨s, hk, fun a ha b hb => ?_, he⟩
  rw [hh _ (by omega)]
  exact hd a ha b hb
theorem e_X6_reachOf {σ : MM} {F p : Nat} {d : Nat → Nat → Nat} (l : lay σ) (hd : hasL σ 86 d) (h9 : b99 d) (hp : p < 10) (hF : 100000 ≤ F) : ∃ σ', g_X6_reachOf F σ 85 (nI p) = some (nI (rS d p), σ') ∧ kp (fun x => x = 110) σ σ' := by
  unfold g_X6_reachOf
  obtain ⟨s, k, h, e⟩ := left_load (F := F) l hd (l_X6_reachOf_2 (fun (σ5 : MM) => bq (g_X6_reachLeft F σ5 85 (nI p)) fun v7 σ6 => some (v7, σ6)) F 85 (nI p)) (fun (σ5 : MM) => bq (g_X6_reachLeft F σ5 85 (nI p)) fun v7 σ6 => some (v7, σ6)) (fun f z σ => l_X6_reachOf_2.eq_2 _ _ _ _ _ _ _) (by omega)
  rw [if_pos (T85 l), e]
  obtain ⟨r, h1, h2⟩ := e_X6_reachLeft (F := F) (k.ly l) h h9 hp (by omega)
  (try dsimp only)
  rw [h2, bq_some, rS_eq h1]
  exact ⟨s, rfl, k⟩
/-- the ring of one -/
noncomputable def ringB (d : Nat → Nat → Nat) (p q : Nat) : Bool := (rS d p).testBit q && (rS d q).testBit p
noncomputable def ringN (d : Nat → Nat → Nat) (p : Nat) : Nat → Nat
  | 0 => 0
  | n + 1 => if ringB d p n = true then ringN d p n ||| 2 ^ n else ringN d p n
theorem ringN_bit {d : Nat → Nat → Nat} {p : Nat} : ∀ n i, (ringN d p n).testBit i = true ↔ i < n ∧ ringB d p i = true
  | 0, i => by
    show (0 : Nat).testBit i = true ↔ _
    rw [Nat.zero_testBit]
    exact ⟨fun q => Bool.noConfusion q, fun q => absurd q.1 (Nat.not_lt_zero i)⟩
  | n + 1, i => by
    have ih := ringN_bit (d := d) (p := p) n i
    show (if ringB d p n = true then ringN d p n ||| 2 ^ n else ringN d p n).testBit i = true ↔ _
    by_cases c : ringB d p n = true
    · rw [if_pos c, Nat.testBit_or, Bool.or_eq_true, ih, bit_one, decide_eq_true_iff]
      constructor
      · rintro (q | q)
        · exact ⟨by omega, q.2⟩
        · subst q; exact ⟨by omega, c⟩
      · rintro ⟨q1, q2⟩
        by_cases e : n = i
        · exact Or.inr e
        · exact Or.inl ⟨by omega, q2⟩
    · rw [if_neg c, ih]
      constructor
      · rintro ⟨q1, q2⟩; exact ⟨by omega, q2⟩
      · rintro ⟨q1, q2⟩
        refine ⟨?_, q2⟩
        by_cases e : i = n
        · subst e; exact absurd q2 c
        · omega
theorem ringN_lt {d : Nat → Nat → Nat} {p : Nat} : ∀ n, n ≤ 10 → ringN d p n < 1024
  | 0, _ => by show 0 < 1024; decide
  | n + 1, h => by
    have ih := ringN_lt (d := d) (p := p) n (by omega)
    show (if ringB d p n = true then ringN d p n ||| 2 ^ n else ringN d p n) < 1024
    by_cases c : ringB d p n = true
    · rw [if_pos c]
      exact Nat.or_lt_two_pow (n := 10) ih (Nat.pow_lt_pow_right (by decide) (by omega))
    · rw [if_neg c]; exact ih
section RINGS
variable {B F : Nat} {G : GG}
theorem e_X0_ringOf {σ : MM} {p : Nat} (hG : GW B G) (h : CI B σ G) (hp : p < 10) (hF : 100000 ≤ F) : g_X0_ringOf F σ 1 (nI p) = some (nI (ringN G.S.1 p 10), σ) := by
  have l := h.l
  have h9 := hG.2.2.1.b99
  have rc : ∀ q, q < 10 → g_X4_reach F σ 6 (nI q) = some (nI (rS G.S.1 q), σ) := fun q hq => e_X4_reach' (d5.B l) h.2.1.1 h9 hq hF
  have rlt : ∀ q, q < 10 → rS G.S.1 q < 2 ^ 31 := fun q hq => Nat.lt_trans (rS_is hq).1 (by decide)
  unfold g_X0_ringOf
  rw [if_pos (T1 l), gP_T (T1 l), Option.bind_some, P1_4 l, dbP l d5, Option.bind_some, rc p hp, bq_some]
  refine ylv (fun f v i σ => l_X0_ringOf_17 (fun (r2_17 : Int32) (σ16 : MM) => some (r2_17, σ16)) F 1 (nI p) (nI (rS G.S.1 p)) f v i σ) (fun v σ => some (v, σ)) (fun i => nI (ringN G.S.1 p i)) σ 10 (fun f i hi => ?_) (fun f => ?_) (f := F) (by omega)
  · have eT : ringB G.S.1 p i = true → ringN G.S.1 p (i + 1) = ringN G.S.1 p i ||| 2 ^ i := fun q => if_pos q
    have eF : ¬ ringB G.S.1 p i = true → ringN G.S.1 p (i + 1) = ringN G.S.1 p i := fun q => if_neg q
    unfold ringB at eT eF
    (try dsimp only)
    rw [l_X0_ringOf_17.eq_2, if_pos (ten_in hi), e_has (rlt p hp) (by omega), bq_some, jn_eq, nI_1]
    by_cases c1 : (rS G.S.1 p).testBit i = true
    · rw [if_pos c1, if_neg (by decide), gP_T (T1 l), Option.bind_some, P1_4 l, dbP l d5, Option.bind_some, rc i hi, bq_some, e_has (rlt i hi) (by omega), bq_some]
      by_cases c2 : (rS G.S.1 i).testBit p = true
      · rw [if_pos c2, if_neg (by decide), bx_one (by omega), eT (by rw [c1, c2]; rfl)]
        (try dsimp only)
        rw [bx_or]
      · rw [if_neg c2, if_pos rfl, show (0 : Int32) = nI 0 from rfl, eF (fun q => c2 (by rw [c1, Bool.true_and] at q; exact q))]
        (try dsimp only)
        rw [bx_or, Nat.or_zero]
    · rw [if_neg c1, if_pos rfl, show (0 : Int32) = nI 0 from rfl, eF (fun q => c1 (by rw [Bool.and_eq_true] at q; exact q.1))]
      (try dsimp only)
      rw [bx_or, Nat.or_zero]
  · (try dsimp only)
    rw [l_X0_ringOf_17.eq_2, if_neg ten_no]
/-- who is come to from one told of is told of -/
theorem reach_told {t Y p q : Nat} {S : DS} (h : DW t Y S) (hp : p < 10) (ht : t.testBit p = true) (hq : (rS S.1 p).testBit q = true) : t.testBit q = true :=
  (rS_is hp).2.2.2 t ht (fun a ha b hb h1 h2 => ((h.1 a ha b hb).2 (by omega)).2.2) q hq
theorem e_X6_ringOf {σ : MM} {p : Nat} (hG : GW B G) (h : MI σ G) (hp : p < 10) (tp : G.t.testBit p = true) (hF : 100000 ≤ F) : ∃ σ', g_X6_ringOf F σ 85 (nI p) = some (nI (ringN G.S.1 p 10), σ') ∧ kp (fun x => x = 110) σ σ' := by
  have l := h.l
  have h9 := hG.2.2.1.b99
  have rlt : ∀ q, q < 10 → rS G.S.1 q < 2 ^ 31 := fun q hq => Nat.lt_trans (rS_is hq).1 (by decide)
  unfold g_X6_ringOf
  obtain ⟨s1, e1, k1⟩ := e_X6_reachOf (F := F) l h.2.1.1 h9 hp hF
  rw [if_pos (T85 l), e1, bq_some]
  obtain ⟨v, s, ⟨hk, hv⟩, he⟩ := yl2 (fun f v i σ => l_X6_ringOf_11 (fun (r2_12 : Int32) (σ11 : MM) => some (r2_12, σ11)) F 85 (nI p) (nI (rS G.S.1 p)) f v i σ) (fun v σ => some (v, σ)) (fun i v s => kp (fun x => x = 110) σ s ∧ v = nI (ringN G.S.1 p i)) 10 (by
    intro f i v s hi ⟨hk, hv⟩
    subst hv
    have hs := h.s (hk.j (R := rSM) (fun x y q => by have q : x = 110 := q; unfold rSM; omega)) (fun _ _ q => q)
    have ls := hs.l
    have eT : ringB G.S.1 p i = true → ringN G.S.1 p (i + 1) = ringN G.S.1 p i ||| 2 ^ i := fun q => if_pos q
    have eF : ¬ ringB G.S.1 p i = true → ringN G.S.1 p (i + 1) = ringN G.S.1 p i := fun q => if_neg q
    unfold ringB at eT eF
    (try dsimp only)
    rw [l_X6_ringOf_11.eq_2, if_pos (ten_in hi), nI_1]
    by_cases c1 : (rS G.S.1 p).testBit i = true
    · have ti := reach_told hG.2.2.1 hp tp c1
      obtain ⟨s2, e2, k2⟩ := e_X6_reachOf (F := F) ls hs.2.1.1 h9 hi hF
      rw [person_yes ls hs.1.2.2 hi ti, bq_some, if_neg (by decide), e_hasM (rlt p hp) (by omega), bq_some, if_pos c1, if_neg (by decide), e2, bq_some, e_hasM (rlt i hi) (by omega), bq_some]
      by_cases c2 : (rS G.S.1 i).testBit p = true
      · rw [if_pos c2, if_neg (by decide), bx_one (by omega), bx_or, eT (by rw [c1, c2]; rfl)]
        exact ⟨_, s2, ⟨hk.trans k2, rfl⟩, rfl⟩
      · rw [if_neg c2, if_pos rfl, eF (fun q => c2 (by rw [c1, Bool.true_and] at q; exact q))]
        exact ⟨_, s2, ⟨hk.trans k2, rfl⟩, rfl⟩
    · rw [eF (fun q => c1 (by rw [Bool.and_eq_true] at q; exact q.1))]
      by_cases ti : G.t.testBit i = true
      · rw [person_yes ls hs.1.2.2 hi ti, bq_some, if_neg (by decide), e_hasM (rlt p hp) (by omega), bq_some, if_neg c1, if_pos rfl]
        exact ⟨_, s, ⟨hk, rfl⟩, rfl⟩
      · rw [person_no ls hs.1.2.2 (fun p hp h1 h2 => ti (by rw [(nI_eq (by omega) (by omega)).mp h2]; exact h1)), bq_some, if_pos rfl]
        exact ⟨_, s, ⟨hk, rfl⟩, rfl⟩) (by
    intro f v s _
    (try dsimp only)
    rw [l_X6_ringOf_11.eq_2, if_neg ten_no]) (f := F) (v := 0) (σ := s1) (by omega) ⟨k1, rfl⟩
  refine ⟨s, he.trans ?_, hk⟩
  rw [hv]
theorem ntz_eq : ∀ k, k < 1024 → ∀ p, p < 10 → ((g_J6_numberOfTrailingZeros 0 σ0 (nI k)).map (fun q => q.1) = some (nI p) ↔ (k.testBit p = true ∧ k % 2 ^ p = 0)) := by decide +kernel
theorem ntz_some (F : Nat) (σ : MM) (x : Int32) : ∃ v, g_J6_numberOfTrailingZeros F σ x = some (v, σ) ∧ (g_J6_numberOfTrailingZeros 0 σ0 x).map (fun q => q.1) = some v := by
  unfold g_J6_numberOfTrailingZeros
  dsimp only [jn]
  split
  · split <;> split <;> split <;> split <;> exact ⟨_, rfl, rfl⟩
  · exact ⟨_, rfl, rfl⟩
end RINGS
