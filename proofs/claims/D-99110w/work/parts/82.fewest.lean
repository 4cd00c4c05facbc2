/-! THE FEWEST PAYINGS -/
section FEWS
variable (d : Nat → Nat → Nat)
def sumS (s : Nat) : Nat → Int32
  | 0 => 0
  | n + 1 => sumS s n + (if s.testBit n = true then netI d n else 0)
def offM : Nat → Nat
  | 0 => 0
  | n + 1 => if netI d n = 0 then offM n else offM n ||| 2 ^ n
def gmax (t : Nat → Nat) (s : Nat) : Nat → Nat
  | 0 => 0
  | n + 1 => if s.testBit n = true then max (gmax t s n) (t (less s (2 ^ n))) else gmax t s n
def grV (t : Nat → Nat) (s : Nat) : Nat := gmax t s 10 + (if s ≠ 0 ∧ sumS d s 10 = 0 then 1 else 0)
def tbl : Nat → Nat → Nat
  | 0 => fun _ => 0
  | s + 1 => updF (tbl s) s (grV d (tbl s) s)
theorem tbl_s {s : Nat} : tbl d (s + 1) = updF (tbl d s) s (grV d (tbl d s) s) := rfl
theorem tbl_keep {u s : Nat} (h : u < s) : ∀ m, tbl d (s + m) u = tbl d s u
  | 0 => rfl
  | m + 1 => by
    have ih := tbl_keep h m
    show tbl d (s + m + 1) u = _
    rw [tbl_s]
    unfold updF
    rw [if_neg (by omega)]
    exact ih
theorem offM_lt : ∀ n, n ≤ 10 → offM d n < 1024
  | 0, _ => by show 0 < 1024; decide
  | n + 1, h => by
    have ih := offM_lt n (by omega)
    show (if netI d n = 0 then offM d n else offM d n ||| 2 ^ n) < 1024
    by_cases c : netI d n = 0
    · rw [if_pos c]; exact ih
    · rw [if_neg c]
      exact Nat.or_lt_two_pow (n := 10) ih (Nat.pow_lt_pow_right (by decide) (by omega))
theorem less_one {s n : Nat} (h : s.testBit n = true) : less s (2 ^ n) < s := by
  have sub : sub_ (less s (2 ^ n)) s := fun i hi => by
    rw [less_bit, Bool.and_eq_true] at hi
    exact hi.1
  have le := sub.le
  rcases Nat.lt_or_ge (less s (2 ^ n)) s with q | q
  · exact q
  · have e : less s (2 ^ n) = s := Nat.le_antisymm le q
    have : (less s (2 ^ n)).testBit n = true := by rw [e]; exact h
    rw [less_bit, bit_one, Bool.and_eq_true, decide_eq_true rfl] at this
    exact absurd this.2 (by decide)
theorem gmax_le {t : Nat → Nat} {s M : Nat} (ht : ∀ u, u < s → t u ≤ M) : ∀ n, gmax t s n ≤ M
  | 0 => Nat.zero_le _
  | n + 1 => by
    have ih := gmax_le ht n
    show (if s.testBit n = true then max (gmax t s n) (t (less s (2 ^ n))) else gmax t s n) ≤ M
    by_cases c : s.testBit n = true
    · rw [if_pos c]
      exact Nat.max_le.mpr ⟨ih, ht _ (less_one c)⟩
    · rw [if_neg c]; exact ih
theorem tbl_le : ∀ s u, tbl d s u ≤ u
  | 0, u => Nat.zero_le u
  | s + 1, u => by
    rw [tbl_s]
    unfold updF
    by_cases c : u = s
    · rw [if_pos c, c]
      unfold grV
      by_cases z : s = 0
      · subst z
        have := gmax_le (t := tbl d 0) (s := 0) (M := 0) (fun u hu => absurd hu (Nat.not_lt_zero u)) 10
        rw [if_neg (fun q => q.1 rfl)]
        omega
      · have := gmax_le (t := tbl d s) (s := s) (M := s - 1) (fun u hu => by have := tbl_le s u; omega) 10
        split <;> omega
    · rw [if_neg c]; exact tbl_le s u
end FEWS
section FEWEST
variable {B F : Nat} {G : GG}
def rG (x _y : Nat) : Prop := x = 84
theorem rG_rSC (x y : Nat) (h : rG x y) : rSC x y := by
  unfold rG at h
  unfold rSC
  omega
theorem less_zero {u a : Nat} (h : less u a = 0) {v : Nat} (hv : sub_ v u) : less v a = 0 := by
  apply Nat.eq_of_testBit_eq
  intro i
  rw [Nat.zero_testBit, less_bit]
  by_cases c : v.testBit i = true
  · have : (less u a).testBit i = false := by rw [h, Nat.zero_testBit]
    rw [less_bit, hv i c, Bool.true_and] at this
    rw [this, Bool.and_false]
  · rw [Bool.eq_false_iff.mpr c, Bool.false_and]
theorem less_self {a : Nat} : less a a = 0 := by
  apply Nat.eq_of_testBit_eq
  intro i
  rw [Nat.zero_testBit, less_bit]
  cases a.testBit i <;> rfl
theorem e_X0_netOfAll {σ : MM} {s : Nat} (h : CI B σ G) (hs : s < 2147483648) (hF : 100000 ≤ F) : g_X0_netOfAll F σ 1 (nI s) = some (sumS G.S.1 s 10, σ) := by
  unfold g_X0_netOfAll
  rw [if_pos (T1 h.l)]
  refine ylv (fun f v i σ => l_X0_netOfAll_4 (fun (r2_9 : Int32) (σ8 : MM) => some (r2_9, σ8)) F 1 (nI s) f v i σ) (fun v σ => some (v, σ)) (sumS G.S.1 s) σ 10 (fun f i hi => ?_) (fun f => ?_) (f := F) (by omega)
  · (try dsimp only)
    have e : sumS G.S.1 s (i + 1) = sumS G.S.1 s i + (if s.testBit i = true then netI G.S.1 i else 0) := rfl
    rw [l_X0_netOfAll_4.eq_2, if_pos (ten_in hi), e_has (by omega) (by omega), bq_some, e, nI_1]
    dsimp only [jn]
    by_cases c : s.testBit i = true
    · rw [if_pos c, if_pos c, if_neg (by decide), e_X0_netOf h hi hF, bq_some]
    · rw [if_neg c, if_neg c, if_pos rfl]
  · (try dsimp only)
    rw [l_X0_netOfAll_4.eq_2, if_neg ten_no]
def hasG (σ : MM) (d : Nat → Nat → Nat) (all s : Nat) : Prop := ∀ u, u < s → u ≤ 1023 → less u all = 0 → mI σ 84 u = nI (tbl d s u)
theorem few_C {σ : MM} (hG : GW B G) (h : CI B σ G) (hF : 100000 ≤ F) : ∃ σ', g_X0_fewest F σ 1 = some (nI (pop (offM G.S.1 10)) - nI (tbl G.S.1 (offM G.S.1 10 + 1) (offM G.S.1 10)), σ') ∧ kj rG σ σ' := by
  have l := h.l
  unfold g_X0_fewest
  rw [if_pos (T1 l)]
  obtain ⟨all, hall⟩ : ∃ all, offM G.S.1 10 = all := ⟨_, rfl⟩
  have alt : all < 1024 := by rw [← hall]; exact offM_lt G.S.1 10 (Nat.le_refl _)
  have first := ylv (fun f v i σ => l_X0_fewest_4 (fun (r1_7 : Int32) (σ6 : MM) => l_X0_fewest_36 (fun (σ23 : MM) => bq (g_J6_bitCount F σ23 r1_7) fun v25 σ24 => (gP σ24 1 0 22 21).bind fun p26 => (aI σ24 p26 20 r1_7).bind fun v27 => some ((v25 - v27), σ24)) F 1 r1_7 F 0 σ6) F 1 f v i σ) (fun r1_7 σ6 => l_X0_fewest_36 (fun (σ23 : MM) => bq (g_J6_bitCount F σ23 r1_7) fun v25 σ24 => (gP σ24 1 0 22 21).bind fun p26 => (aI σ24 p26 20 r1_7).bind fun v27 => some ((v25 - v27), σ24)) F 1 r1_7 F 0 σ6) (fun i => nI (offM G.S.1 i)) σ 10 (fun f i hi => by
    (try dsimp only)
    have eT : netI G.S.1 i = 0 → offM G.S.1 (i + 1) = offM G.S.1 i := fun q => if_pos q
    have eF : ¬ netI G.S.1 i = 0 → offM G.S.1 (i + 1) = offM G.S.1 i ||| 2 ^ i := fun q => if_neg q
    rw [l_X0_fewest_4.eq_2, if_pos (ten_in hi), e_X0_netOf h hi hF, bq_some, nI_1]
    dsimp only [jn]
    by_cases c : netI G.S.1 i = 0
    · rw [if_pos c, eT c, show (0 : Int32) = nI 0 from rfl, bx_or, Nat.or_zero]
    · rw [if_neg c, eF c, bx_one (by omega), bx_or]) (fun f => by
    (try dsimp only)
    rw [l_X0_fewest_4.eq_2, if_neg ten_no]) (f := F) (by omega)
  (try dsimp only at first)
  rw [show (0 : Int32) = nI (offM G.S.1 0) from rfl, show nI (offM G.S.1 0) = (0 : Int32) from rfl]
  refine (show ∃ σ', _ = _ ∧ _ from ?_)
  rw [show l_X0_fewest_4 (fun (r1_7 : Int32) (σ6 : MM) => l_X0_fewest_36 (fun (σ23 : MM) => bq (g_J6_bitCount F σ23 r1_7) fun v25 σ24 => (gP σ24 1 0 22 21).bind fun p26 => (aI σ24 p26 20 r1_7).bind fun v27 => some ((v25 - v27), σ24)) F 1 r1_7 F 0 σ6) F 1 F 0 0 σ = _ from first, hall]
  have key : ∀ n s f t, s + n = all + 1 → n < f → kj rG σ t → hasG t G.S.1 all s → ∃ σ', l_X0_fewest_36 (fun (σ23 : MM) => bq (g_J6_bitCount F σ23 (nI all)) fun v25 σ24 => (gP σ24 1 0 22 21).bind fun p26 => (aI σ24 p26 20 (nI all)).bind fun v27 => some ((v25 - v27), σ24)) F 1 (nI all) f (nI s) t = some (nI (pop all) - nI (tbl G.S.1 (all + 1) all), σ') ∧ kj rG σ σ' := by
    intro n
    induction n with
    | zero =>
      intro s f t e hf k1 g1
      obtain ⟨f, rfl⟩ : ∃ g, f = g + 1 := ⟨f - 1, by omega⟩
      have e : s = all + 1 := by omega
      subst e
      have lt := k1.ly l
      rw [l_X0_fewest_36.eq_2, if_pos (nI_lt (by omega) (by omega)), bc_eq (by omega), bq_some, gP_T (T1 lt), Option.bind_some, P1_21 lt, aI_T (by rw [T84 lt]) (by rw [T84 lt]; exact alt) (by rw [T84 lt]; decide), Option.bind_some, g1 all (by omega) (by omega) less_self]
      exact ⟨t, rfl, k1⟩
    | succ n ih =>
      intro s f t e hf k1 g1
      obtain ⟨f, rfl⟩ : ∃ g, f = g + 1 := ⟨f - 1, by omega⟩
      have ht := h.s k1 rG_rSC
      have lt := ht.l
      have s1024 : s < 1024 := by omega
      rw [l_X0_fewest_36.eq_2, if_neg (nI_nlt (by omega) (by omega)), bx_less]
      by_cases c : less s all = 0
      · rw [if_pos (by rw [c]; rfl)]
        have inner := ylv (fun f' v i σ => l_X0_fewest_57 (fun (r3_15 : Int32) (σ14 : MM) => (gP σ14 1 0 22 21).bind fun p16 => jn (fun (w18 : Int32) (σ17 : MM) => (sI σ17 p16 (nI s) ((r3_15 + w18))).bind fun σ20 => l_X0_fewest_36 (fun (σ23 : MM) => bq (g_J6_bitCount F σ23 (nI all)) fun v25 σ24 => (gP σ24 1 0 22 21).bind fun p26 => (aI σ24 p26 20 (nI all)).bind fun v27 => some ((v25 - v27), σ24)) F 1 (nI all) f ((nI s + 1)) σ20) (fun k19 => if nI s = 0 then (k19 0 σ14) else (bq (g_X0_netOfAll F σ14 1 (nI s)) fun v22 σ21 => if v22 = 0 then (k19 1 σ21) else (k19 0 σ21)))) F 1 (nI all) (nI s) f' v i σ) (fun r3_15 σ14 => (gP σ14 1 0 22 21).bind fun p16 => jn (fun (w18 : Int32) (σ17 : MM) => (sI σ17 p16 (nI s) ((r3_15 + w18))).bind fun σ20 => l_X0_fewest_36 (fun (σ23 : MM) => bq (g_J6_bitCount F σ23 (nI all)) fun v25 σ24 => (gP σ24 1 0 22 21).bind fun p26 => (aI σ24 p26 20 (nI all)).bind fun v27 => some ((v25 - v27), σ24)) F 1 (nI all) f ((nI s + 1)) σ20) (fun k19 => if nI s = 0 then (k19 0 σ14) else (bq (g_X0_netOfAll F σ14 1 (nI s)) fun v22 σ21 => if v22 = 0 then (k19 1 σ21) else (k19 0 σ21)))) (fun i => nI (gmax (tbl G.S.1 s) s i)) t 10 (fun f' i hi => by
          (try dsimp only)
          have eT : s.testBit i = true → gmax (tbl G.S.1 s) s (i + 1) = max (gmax (tbl G.S.1 s) s i) (tbl G.S.1 s (less s (2 ^ i))) := fun q => if_pos q
          have eF : ¬ s.testBit i = true → gmax (tbl G.S.1 s) s (i + 1) = gmax (tbl G.S.1 s) s i := fun q => if_neg q
          rw [l_X0_fewest_57.eq_2, if_pos (ten_in hi), e_has (by omega) (by omega), bq_some, nI_1 i]
          by_cases c2 : s.testBit i = true
          · have lo := less_one c2
            have l1024 : less s (2 ^ i) < 1024 := by omega
            have b1 := gmax_le (t := tbl G.S.1 s) (s := s) (M := s) (fun u hu => Nat.le_trans (tbl_le G.S.1 s u) (by omega)) i
            have b2 := tbl_le G.S.1 s (less s (2 ^ i))
            have g2 := g1 (less s (2 ^ i)) lo (by omega) (less_zero c (fun j hj => by rw [less_bit, Bool.and_eq_true] at hj; exact hj.1))
            rw [if_pos c2, if_neg (by decide), gP_T (T1 lt), Option.bind_some, P1_21 lt, bx_one (by omega), bx_less, aI_T (by rw [T84 lt]) (by rw [T84 lt]; exact l1024) (by rw [T84 lt]; decide), Option.bind_some, g2, jmax_nI (by omega) (by omega), eT c2]
          · rw [if_neg c2, if_pos rfl, eF c2]) (fun f' => by
          (try dsimp only)
          rw [l_X0_fewest_57.eq_2, if_neg ten_no]) (f := F) (by omega)
        refine (show ∃ σ', _ = _ ∧ _ from ?_)
        rw [show l_X0_fewest_57 (fun (r3_15 : Int32) (σ14 : MM) => (gP σ14 1 0 22 21).bind fun p16 => jn (fun (w18 : Int32) (σ17 : MM) => (sI σ17 p16 (nI s) ((r3_15 + w18))).bind fun σ20 => l_X0_fewest_36 (fun (σ23 : MM) => bq (g_J6_bitCount F σ23 (nI all)) fun v25 σ24 => (gP σ24 1 0 22 21).bind fun p26 => (aI σ24 p26 20 (nI all)).bind fun v27 => some ((v25 - v27), σ24)) F 1 (nI all) f ((nI s + 1)) σ20) (fun k19 => if nI s = 0 then (k19 0 σ14) else (bq (g_X0_netOfAll F σ14 1 (nI s)) fun v22 σ21 => if v22 = 0 then (k19 1 σ21) else (k19 0 σ21)))) F 1 (nI all) (nI s) F 0 0 t = _ from inner]
        (try dsimp only)
        -- what is written
        have put : ∀ w : Nat, w = (if s ≠ 0 ∧ sumS G.S.1 s 10 = 0 then 1 else 0) → ∃ σ', ((sI t 84 (nI s) ((nI (gmax (tbl G.S.1 s) s 10) + nI w))).bind fun σ20 => l_X0_fewest_36 (fun (σ23 : MM) => bq (g_J6_bitCount F σ23 (nI all)) fun v25 σ24 => (gP σ24 1 0 22 21).bind fun p26 => (aI σ24 p26 20 (nI all)).bind fun v27 => some ((v25 - v27), σ24)) F 1 (nI all) f ((nI s + 1)) σ20) = some (nI (pop all) - nI (tbl G.S.1 (all + 1) all), σ') ∧ kj rG σ σ' := by
          intro w hw
          rw [nI_add, sI_T (by rw [T84 lt]) (by rw [T84 lt]; exact s1024) (by rw [T84 lt]; decide), Option.bind_some, nI_1]
          refine ih (s + 1) f _ (by omega) (by omega) (k1.trans (kj.w rfl)) (fun u hu hu2 hu3 => ?_)
          rw [tbl_s]
          unfold updF
          by_cases q : u = s
          · rw [if_pos q, q, mI_ws, hw]; rfl
          · rw [if_neg q, mI_wy q]
            exact g1 u (by omega) hu2 hu3
        rw [gP_T (T1 lt), Option.bind_some, P1_21 lt]
        dsimp only [jn]
        by_cases c0 : s = 0
        · rw [if_pos (by rw [c0]; rfl)]
          exact put 0 (by rw [if_neg (fun q => q.1 c0)])
        · rw [if_neg (nI_ne0 (by omega) (by omega)), e_X0_netOfAll ht (by omega) hF, bq_some]
          by_cases c1 : sumS G.S.1 s 10 = 0
          · rw [if_pos c1]
            exact put 1 (by rw [if_pos ⟨c0, c1⟩])
          · rw [if_neg c1]
            exact put 0 (by rw [if_neg (fun q => c1 q.2)])
      · have cl : less s all < 1024 := less_lt (n := 10) s1024
        rw [if_neg (nI_ne0 (by omega) (by omega)), nI_1]
        refine ih (s + 1) f t (by omega) (by omega) k1 (fun u hu hu2 hu3 => ?_)
        rw [tbl_s]
        unfold updF
        by_cases q : u = s
        · rw [q] at hu3; exact absurd hu3 c
        · rw [if_neg q]
          exact g1 u (by omega) hu2 hu3
  exact key (all + 1) 0 F σ (by omega) (by omega) kj.refl (fun u hu => absurd hu (Nat.not_lt_zero u))
/-! the model's -/
def rGm (x _y : Nat) : Prop := x = 121 ∨ x = 122
theorem rGm_rSM (x y : Nat) (h : rGm x y) : rSM x y := by
  unfold rGm at h
  unfold rSM
  omega
theorem q59 {σ : MM} (l : lay σ) : gP σ 85 5 62 59 = some 121 := by rw [gP_T (T85 l), P85_59 l]
theorem q60 {σ : MM} (l : lay σ) : gP σ 85 5 62 60 = some 122 := by rw [gP_T (T85 l), P85_60 l]
theorem qG {σ : MM} {A k : Nat} (l : lay σ) (hA : A = 121 ∨ A = 122) (hk : k < 1024) : aI σ A 20 (nI k) = some (mI σ A k) := by
  have h : mT σ A = (20, 1024) := by rcases hA with e | e <;> subst e <;> first | exact T121 l | exact T122 l
  exact aI_T (by rw [h]) (by rw [h]; exact hk) (by rw [h]; decide)
theorem qS {σ : MM} {A k : Nat} {v : Int32} (l : lay σ) (hA : A = 121 ∨ A = 122) (hk : k < 1024) : sI σ A (nI k) v = some (wI σ A k v) := by
  have h : mT σ A = (20, 1024) := by rcases hA with e | e <;> subst e <;> first | exact T121 l | exact T122 l
  exact sI_T (by rw [h]) (by rw [h]; exact hk) (by rw [h]; decide)
theorem groups_M {σ : MM} (hG : GW B G) (h : MI σ G) (hF : 100000 ≤ F) : ∃ σ', g_X6_laysGroups F σ 85 = some σ' ∧ kj rGm σ σ' ∧ ∀ u, u < 1024 → mI σ' 122 u = nI (tbl G.S.1 1024 u) := by
  have l := h.l
  have A1 : (121 : Nat) = 121 ∨ (121 : Nat) = 122 := Or.inl rfl
  have A2 : (122 : Nat) = 121 ∨ (122 : Nat) = 122 := Or.inr rfl
  unfold g_X6_laysGroups
  rw [if_pos (T85 l)]
  obtain ⟨t9, ⟨k9, g9⟩, e9⟩ := yl1 (l_X6_laysGroups_2 (fun (σ28 : MM) => some σ28) F 85) (fun (σ28 : MM) => some σ28) (fun s t => kj rGm σ t ∧ ∀ u, u < s → mI t 122 u = nI (tbl G.S.1 s u)) 1024 (by
    intro f s t hs ⟨k1, g1⟩
    have ht := h.s k1 rGm_rSM
    have lt := ht.l
    have l2 : lay (wI t 121 s 0) := lt
    rw [l_X6_laysGroups_2.eq_2, if_pos (show nI s < 1024 from nI_lt (b := 1024) hs (by decide)), q59 lt, Option.bind_some, qS lt A1 hs, Option.bind_some, q60 l2, Option.bind_some, qS l2 A2 hs, Option.bind_some]
    obtain ⟨t3, ⟨k3, u3, v3, w3⟩, e3⟩ := yl1 (l_X6_laysGroups_25 (fun (σ21 : MM) => if nI s = 0 then (l_X6_laysGroups_2 (fun (σ28 : MM) => some σ28) F 85 f ((nI s + 1)) σ21) else ((gP σ21 85 5 62 59).bind fun p22 => (aI σ21 p22 20 (nI s)).bind fun v23 => if v23 = 0 then ((gP σ21 85 5 62 60).bind fun p24 => (gP σ21 85 5 62 60).bind fun p25 => (aI σ21 p25 20 (nI s)).bind fun v26 => (sI σ21 p24 (nI s) ((v26 + 1))).bind fun σ27 => l_X6_laysGroups_2 (fun (σ28 : MM) => some σ28) F 85 f ((nI s + 1)) σ27) else (l_X6_laysGroups_2 (fun (σ28 : MM) => some σ28) F 85 f ((nI s + 1)) σ21))) F 85 (nI s)) (fun (σ21 : MM) => if nI s = 0 then (l_X6_laysGroups_2 (fun (σ28 : MM) => some σ28) F 85 f ((nI s + 1)) σ21) else ((gP σ21 85 5 62 59).bind fun p22 => (aI σ21 p22 20 (nI s)).bind fun v23 => if v23 = 0 then ((gP σ21 85 5 62 60).bind fun p24 => (gP σ21 85 5 62 60).bind fun p25 => (aI σ21 p25 20 (nI s)).bind fun v26 => (sI σ21 p24 (nI s) ((v26 + 1))).bind fun σ27 => l_X6_laysGroups_2 (fun (σ28 : MM) => some σ28) F 85 f ((nI s + 1)) σ27) else (l_X6_laysGroups_2 (fun (σ28 : MM) => some σ28) F 85 f ((nI s + 1)) σ21))) (fun i t' => kj rGm σ t' ∧ (∀ u, u < s → mI t' 122 u = nI (tbl G.S.1 s u)) ∧ mI t' 121 s = sumS G.S.1 s i ∧ mI t' 122 s = nI (gmax (tbl G.S.1 s) s i)) 10 (by
      intro g i t' hi ⟨k2, u2, v2, w2⟩
      have ht' := h.s k2 rGm_rSM
      have lt' := ht'.l
      have eT : s.testBit i = true → gmax (tbl G.S.1 s) s (i + 1) = max (gmax (tbl G.S.1 s) s i) (tbl G.S.1 s (less s (2 ^ i))) := fun q => if_pos q
      have eF : ¬ s.testBit i = true → gmax (tbl G.S.1 s) s (i + 1) = gmax (tbl G.S.1 s) s i := fun q => if_neg q
      have e : sumS G.S.1 s (i + 1) = sumS G.S.1 s i + (if s.testBit i = true then netI G.S.1 i else 0) := rfl
      rw [l_X6_laysGroups_25.eq_2, if_pos (ten_in hi), e_hasM (by omega) (by omega), bq_some, nI_1 i]
      by_cases c2 : s.testBit i = true
      · have lo := less_one c2
        have b1 := gmax_le (t := tbl G.S.1 s) (s := s) (M := s) (fun u hu => Nat.le_trans (tbl_le G.S.1 s u) (by omega)) i
        have b2 := tbl_le G.S.1 s (less s (2 ^ i))
        have l5 : lay (wI t' 121 s (sumS G.S.1 s i + netI G.S.1 i)) := lt'
        have r1 : mI (wI t' 121 s (sumS G.S.1 s i + netI G.S.1 i)) 122 s = nI (gmax (tbl G.S.1 s) s i) := by rw [mI_wn (by decide)]; exact w2
        have r2 : mI (wI t' 121 s (sumS G.S.1 s i + netI G.S.1 i)) 122 (less s (2 ^ i)) = nI (tbl G.S.1 s (less s (2 ^ i))) := by rw [mI_wn (by decide)]; exact u2 _ lo
        rw [if_pos c2, if_neg (by decide)]
        simp only [q59 lt', Option.bind_some, qG lt' A1 hs, v2]
        rw [e_X6_setOffOf ht' hi hF, bq_some, qS lt' A1 hs, Option.bind_some]
        simp only [q60 l5, Option.bind_some, qG l5 A2 hs, r1]
        rw [bx_one (by omega), bx_less, qG l5 A2 (by omega), Option.bind_some, r2, e_maxM (by omega) (by omega), bq_some, qS l5 A2 hs, Option.bind_some]
        refine ⟨_, ⟨(k2.trans (kj.w (Or.inl rfl))).trans (kj.w (Or.inr rfl)), fun u hu => ?_, ?_, ?_⟩, rfl⟩
        · rw [mI_wy (by omega), mI_wn (by decide)]; exact u2 u hu
        · rw [mI_wn (by decide), mI_ws, e, if_pos c2]
        · rw [mI_ws, eT c2]
      · rw [if_neg c2, if_pos rfl]
        exact ⟨t', ⟨k2, u2, by rw [e, if_neg c2, v2, Int32.add_zero], by rw [eF c2]; exact w2⟩, rfl⟩) (by
      intro g t' _
      rw [l_X6_laysGroups_25.eq_2, if_neg ten_no]) (f := F) (σ := wI (wI t 121 s 0) 122 s 0) (by omega) ⟨(k1.trans (kj.w (Or.inl rfl))).trans (kj.w (Or.inr rfl)), fun u hu => by rw [mI_wy (by omega), mI_wn (by decide)]; exact g1 u hu, by rw [mI_wn (by decide), mI_ws]; rfl, by rw [mI_ws]; rfl⟩
    rw [e3]
    have lt3 := k3.ly l
    (try dsimp only)
    by_cases c0 : s = 0
    · rw [if_pos (by rw [c0]; rfl), nI_1]
      refine ⟨t3, ⟨k3, fun u hu => ?_⟩, rfl⟩
      rw [tbl_s]
      unfold updF
      by_cases q : u = s
      · rw [if_pos q, q, w3]
        unfold grV
        rw [if_neg (fun q => q.1 c0)]; rfl
      · rw [if_neg q]; exact u3 u (by omega)
    · rw [if_neg (nI_ne0 (by omega) (by omega)), q59 lt3, Option.bind_some, qG lt3 A1 hs, Option.bind_some, v3]
      by_cases c1 : sumS G.S.1 s 10 = 0
      · rw [if_pos c1]
        simp only [q60 lt3, Option.bind_some, qG lt3 A2 hs, w3]
        rw [qS lt3 A2 hs, Option.bind_some, nI_1 s, nI_1]
        refine ⟨_, ⟨k3.trans (kj.w (Or.inr rfl)), fun u hu => ?_⟩, rfl⟩
        rw [tbl_s]
        unfold updF
        by_cases q : u = s
        · rw [if_pos q, q, mI_ws]
          unfold grV
          rw [if_pos ⟨c0, c1⟩]
        · rw [if_neg q, mI_wy q]; exact u3 u (by omega)
      · rw [if_neg c1, nI_1]
        refine ⟨t3, ⟨k3, fun u hu => ?_⟩, rfl⟩
        rw [tbl_s]
        unfold updF
        by_cases q : u = s
        · rw [if_pos q, q, w3]
          unfold grV
          rw [if_neg (fun q => c1 q.2)]; rfl
        · rw [if_neg q]; exact u3 u (by omega)) (by
    intro f t _
    rw [l_X6_laysGroups_2.eq_2, if_neg (by decide)]) (f := F) (by omega) ⟨kj.refl, fun u hu => absurd hu (Nat.not_lt_zero u)⟩
  exact ⟨t9, e9, k9, g9⟩
theorem few_M {σ : MM} (hG : GW B G) (h : MI σ G) (hF : 100000 ≤ F) : ∃ σ', g_X6_fewest F σ 85 = some (nI (pop (offM G.S.1 10)) - nI (tbl G.S.1 (offM G.S.1 10 + 1) (offM G.S.1 10)), σ') ∧ kj rGm σ σ' := by
  have l := h.l
  unfold g_X6_fewest
  rw [if_pos (T85 l)]
  have alt : offM G.S.1 10 < 1024 := offM_lt G.S.1 10 (Nat.le_refl _)
  have first := ylv (fun f v i σ => l_X6_fewest_4 (fun (r1_4 : Int32) (σ3 : MM) => (g_X6_laysGroups F σ3 85).bind fun σ5 => bq (g_X6_bits F σ5 r1_4) fun v7 σ6 => (gP σ6 85 5 62 60).bind fun p8 => (aI σ6 p8 20 r1_4).bind fun v9 => some ((v7 - v9), σ6)) F 85 f v i σ) (fun r1_4 σ3 => (g_X6_laysGroups F σ3 85).bind fun σ5 => bq (g_X6_bits F σ5 r1_4) fun v7 σ6 => (gP σ6 85 5 62 60).bind fun p8 => (aI σ6 p8 20 r1_4).bind fun v9 => some ((v7 - v9), σ6)) (fun i => nI (offM G.S.1 i)) σ 10 (fun f i hi => by
    (try dsimp only)
    have eT : netI G.S.1 i = 0 → offM G.S.1 (i + 1) = offM G.S.1 i := fun q => if_pos q
    have eF : ¬ netI G.S.1 i = 0 → offM G.S.1 (i + 1) = offM G.S.1 i ||| 2 ^ i := fun q => if_neg q
    rw [l_X6_fewest_4.eq_2, if_pos (ten_in hi), e_X6_setOffOf h hi hF, bq_some, nI_1]
    by_cases c : netI G.S.1 i = 0
    · rw [if_pos c, eT c]
    · rw [if_neg c, eF c, bx_one (by omega), bx_or]) (fun f => by
    (try dsimp only)
    rw [l_X6_fewest_4.eq_2, if_neg ten_no]) (f := F) (by omega)
  obtain ⟨t, e, k, g⟩ := groups_M (F := F) hG h hF
  have lt := k.ly l
  refine ⟨t, ?_, k⟩
  refine (show _ = _ from first).trans ?_
  (try dsimp only)
  rw [e, Option.bind_some, bits_eq (by omega) (by omega), bq_some, q60 lt, Option.bind_some, qG lt (Or.inr rfl) alt, Option.bind_some, g _ alt]
  obtain ⟨m, hm⟩ : ∃ m, 1024 = (offM G.S.1 10 + 1) + m := ⟨1024 - (offM G.S.1 10 + 1), by omega⟩
  rw [show tbl G.S.1 1024 (offM G.S.1 10) = tbl G.S.1 (offM G.S.1 10 + 1) (offM G.S.1 10) by rw [hm]; exact tbl_keep G.S.1 (by omega) m]
theorem call_fewest (hG : GW B G) (hF : 100000 ≤ F) : Call B G (fun σ => g_X0_fewest F σ 1) (fun τ => g_X6_fewest F τ 85) :=
  call_same hG _ (fun σ h => by
    obtain ⟨s, e, k⟩ := few_C (F := F) hG h hF
    exact ⟨s, e, k.mono rG_rSC⟩) (fun τ h => by
    obtain ⟨s, e, k⟩ := few_M (F := F) hG h hF
    exact ⟨s, e, k.mono rGm_rSM⟩)
end FEWEST
