/-! THE MOST IN A ROW, by sets -/
/-- what is left when a set is paid -/
def remD (C : CO) (s : Nat) : Nat → Nat → Nat → Nat
  | 0 => fun _ _ => 0
  | k + 1 => if s.testBit k = true then remD C s k else incD (remD C s k) (C.2.1 k) (C.2.2 k)
theorem remD_T {C : CO} {s k : Nat} (h : s.testBit k = true) : remD C s (k + 1) = remD C s k := if_pos h
theorem remD_F {C : CO} {s k : Nat} (h : ¬ s.testBit k = true) : remD C s (k + 1) = incD (remD C s k) (C.2.1 k) (C.2.2 k) := if_neg h
theorem remD_pos {C : CO} {s a b : Nat} : ∀ n, 0 < remD C s n a b ↔ ∃ k, k < n ∧ ¬ s.testBit k = true ∧ C.2.1 k = a ∧ C.2.2 k = b
  | 0 => ⟨fun h => absurd h (Nat.lt_irrefl 0), fun ⟨k, h, _⟩ => absurd h (Nat.not_lt_zero k)⟩
  | n + 1 => by
    have ih := remD_pos (C := C) (s := s) (a := a) (b := b) n
    by_cases c : s.testBit n = true
    · rw [remD_T c, ih]
      constructor
      · rintro ⟨k, h1, h2⟩; exact ⟨k, by omega, h2⟩
      · rintro ⟨k, h1, h2, h3⟩
        refine ⟨k, ?_, h2, h3⟩
        by_cases e : k = n
        · subst e; exact absurd c h2
        · omega
    · rw [remD_F c]
      unfold incD
      by_cases e : a = C.2.1 n ∧ b = C.2.2 n
      · rw [if_pos e]
        exact ⟨fun _ => ⟨n, by omega, c, e.1.symm, e.2.symm⟩, fun _ => Nat.succ_pos _⟩
      · rw [if_neg e, ih]
        constructor
        · rintro ⟨k, h1, h2⟩; exact ⟨k, by omega, h2⟩
        · rintro ⟨k, h1, h2, h3, h4⟩
          refine ⟨k, ?_, h2, h3, h4⟩
          by_cases q : k = n
          · subst q; exact absurd ⟨h3.symm, h4.symm⟩ e
          · omega
theorem or_bit {s k i : Nat} : (s ||| 2 ^ k).testBit i = true ↔ s.testBit i = true ∨ i = k := by
  rw [Nat.testBit_or, Bool.or_eq_true, bit_one, decide_eq_true_iff]
  exact ⟨fun q => q.elim Or.inl (fun q => Or.inr q.symm), fun q => q.elim Or.inl (fun q => Or.inr q.symm)⟩
theorem remD_same {C : CO} {s s' : Nat} : ∀ n, (∀ i, i < n → (s.testBit i = true ↔ s'.testBit i = true)) → remD C s n = remD C s' n
  | 0, _ => rfl
  | n + 1, h => by
    have ih := remD_same (C := C) n (fun i hi => h i (by omega))
    by_cases c : s.testBit n = true
    · rw [remD_T c, remD_T ((h n (by omega)).mp c), ih]
    · rw [remD_F c, remD_F (fun q => c ((h n (by omega)).mpr q)), ih]
theorem inc_dec {d : Nat → Nat → Nat} {a b x y : Nat} (h : 0 < d a b) : incD (decD d a b) x y = decD (incD d x y) a b := by
  funext u v
  unfold incD decD
  (try dsimp only)
  by_cases c1 : u = x ∧ v = y
  · by_cases c2 : u = a ∧ v = b
    · rw [if_pos c1, if_pos c2, if_pos c2, if_pos c1]
      have : 0 < d u v := by rw [c2.1, c2.2]; exact h
      omega
    · rw [if_pos c1, if_neg c2, if_neg c2, if_pos c1]
  · by_cases c2 : u = a ∧ v = b
    · rw [if_neg c1, if_pos c2, if_pos c2, if_neg c1]
    · rw [if_neg c1, if_neg c2, if_neg c2, if_neg c1]
/-- one more paid -/
theorem remD_or {C : CO} {s k : Nat} : ∀ n, k < n → ¬ s.testBit k = true → remD C (s ||| 2 ^ k) n = decD (remD C s n) (C.2.1 k) (C.2.2 k)
  | 0, h, _ => absurd h (Nat.not_lt_zero k)
  | n + 1, h, hs => by
    by_cases e : k = n
    · subst e
      rw [remD_T (or_bit.mpr (Or.inr rfl)), remD_F hs, remD_same (s' := s) k (fun i hi => ⟨fun q => (or_bit.mp q).resolve_right (by omega), fun q => or_bit.mpr (Or.inl q)⟩)]
      funext u v
      unfold decD incD
      by_cases c : u = C.2.1 k ∧ v = C.2.2 k
      · rw [if_pos c, if_pos c]; omega
      · rw [if_neg c, if_neg c]
    · have ih := remD_or (C := C) (s := s) (k := k) n (by omega) hs
      by_cases c : s.testBit n = true
      · rw [remD_T (or_bit.mpr (Or.inl c)), remD_T c, ih]
      · rw [remD_F (fun q => (or_bit.mp q).elim c (fun q => e q.symm)), remD_F c, ih]
        exact inc_dec ((remD_pos n).mpr ⟨k, by omega, hs, rfl, rfl⟩)
/-- the greatest, of a matrix alone -/
def MX (d : Nat → Nat → Nat) (p : Nat) : Nat := mx (allS d) d p
theorem MX_f {d : Nat → Nat → Nat} {p : Nat} (hp : p < 10) : MX d p = mxl (fun b => if 0 < d p b then 1 + MX (decD d p b) b else 0) 10 := by
  cases hn : allS d with
  | zero =>
    have : MX d p = 0 := by unfold MX; rw [hn]; exact mx.eq_1 _ _
    rw [this]
    exact (Nat.le_zero.mp (mxl_le 10 (fun b hb => by rw [all0 hn hp hb]; exact Nat.le_refl 0))).symm
  | succ n =>
    have : MX d p = mxl (fS n d p) 10 := by unfold MX; rw [hn]; exact mx_s
    rw [this]
    refine mxl_congr 10 (fun b hb => ?_)
    unfold fS
    by_cases c : 0 < d p b
    · have := all_dec hp hb c
      rw [if_pos c, if_pos c]
      unfold MX
      rw [show allS (decD d p b) = n by omega]
    · rw [if_neg c, if_neg c]
def fX (d : Nat → Nat → Nat) (p b : Nat) : Nat := if 0 < d p b then 1 + MX (decD d p b) b else 0
theorem MX_x {d : Nat → Nat → Nat} {p : Nat} (hp : p < 10) : MX d p = mxl (fX d p) 10 := MX_f hp
theorem MX_le (d : Nat → Nat → Nat) (p : Nat) : MX d p ≤ allS d := mx_le _ _ _
/-- the best among the first coins -/
def mkS (C : CO) (s p : Nat) : Nat → Nat
  | 0 => 0
  | k + 1 => if C.2.1 k = p ∧ ¬ s.testBit k = true then max (mkS C s p k) (1 + MX (remD C (s ||| 2 ^ k) C.1) (C.2.2 k)) else mkS C s p k
theorem mkS_f {C : CO} {s p k : Nat} (hk : k < C.1) (h1 : C.2.1 k = p) (h2 : ¬ s.testBit k = true) : fX (remD C s C.1) p (C.2.2 k) = 1 + MX (remD C (s ||| 2 ^ k) C.1) (C.2.2 k) := by
  unfold fX
  rw [if_pos ((remD_pos C.1).mpr ⟨k, hk, h2, h1, rfl⟩), remD_or C.1 hk h2, h1]
theorem mkS_le {C : CO} {s p : Nat} (hw : coW C) (hp : p < 10) : ∀ n, n ≤ C.1 → mkS C s p n ≤ MX (remD C s C.1) p
  | 0, _ => Nat.zero_le _
  | n + 1, h => by
    have ih := mkS_le (s := s) hw hp n (by omega)
    show (if C.2.1 n = p ∧ ¬ s.testBit n = true then max (mkS C s p n) (1 + MX (remD C (s ||| 2 ^ n) C.1) (C.2.2 n)) else mkS C s p n) ≤ _
    by_cases c : C.2.1 n = p ∧ ¬ s.testBit n = true
    · rw [if_pos c]
      refine Nat.max_le.mpr ⟨ih, ?_⟩
      rw [← mkS_f (by omega) c.1 c.2, MX_x hp]
      exact mxl_ge 10 (hw n (by omega)).2.1
    · rw [if_neg c]; exact ih
theorem mkS_ge {C : CO} {s p k : Nat} (h1 : C.2.1 k = p) (h2 : ¬ s.testBit k = true) : ∀ n, k < n → 1 + MX (remD C (s ||| 2 ^ k) C.1) (C.2.2 k) ≤ mkS C s p n
  | 0, h => absurd h (Nat.not_lt_zero k)
  | n + 1, h => by
    show _ ≤ (if C.2.1 n = p ∧ ¬ s.testBit n = true then max (mkS C s p n) (1 + MX (remD C (s ||| 2 ^ n) C.1) (C.2.2 n)) else mkS C s p n)
    by_cases e : k = n
    · subst e
      rw [if_pos ⟨h1, h2⟩]
      exact Nat.le_max_right _ _
    · have ih := mkS_ge h1 h2 n (by omega)
      split
      · exact Nat.le_trans ih (Nat.le_max_left _ _)
      · exact ih
theorem mkS_eq {C : CO} {s p : Nat} (hw : coW C) (hp : p < 10) : mkS C s p C.1 = MX (remD C s C.1) p := by
  refine Nat.le_antisymm (mkS_le hw hp C.1 (Nat.le_refl _)) ?_
  rw [MX_x hp]
  refine mxl_le 10 (fun b hb => ?_)
  by_cases c : 0 < remD C s C.1 p b
  · obtain ⟨k, hk, h2, h1, h3⟩ := (remD_pos C.1).mp c
    have := mkS_ge (C := C) h1 h2 C.1 hk
    rw [← mkS_f hk h1 h2, h3] at this
    exact this
  · unfold fX
    rw [if_neg c]; exact Nat.zero_le _
theorem rem_all {C : CO} {s : Nat} (hw : coW C) : ∀ n, n ≤ C.1 → allS (remD C s n) ≤ n
  | 0, _ => by
    show sm (fun a => sm (fun _ => 0) 10) 10 ≤ 0
    rw [sm_zero, sm_zero]; exact Nat.le_refl 0
  | n + 1, h => by
    have ih := rem_all (s := s) hw n (by omega)
    by_cases c : s.testBit n = true
    · rw [remD_T c]; omega
    · rw [remD_F c]
      have w := hw n (by omega)
      have e : allS (incD (remD C s n) (C.2.1 n) (C.2.2 n)) = allS (remD C s n) + 1 := by
        have h1 : 0 < incD (remD C s n) (C.2.1 n) (C.2.2 n) (C.2.1 n) (C.2.2 n) := by unfold incD; rw [if_pos ⟨rfl, rfl⟩]; exact Nat.succ_pos _
        have h2 := all_dec w.1 w.2.1 h1
        have h3 : decD (incD (remD C s n) (C.2.1 n) (C.2.2 n)) (C.2.1 n) (C.2.2 n) = remD C s n := by
          funext u v
          unfold decD incD
          by_cases q : u = C.2.1 n ∧ v = C.2.2 n
          · rw [if_pos q, if_pos q]; omega
          · rw [if_neg q, if_neg q]
        rw [h3] at h2
        omega
      omega
section MOSTM
variable {B F : Nat} {G : GG}
theorem byte_eq : ∀ m, m < 128 → vp_nar .byte ((nI m).toInt8.toInt32) = nI m := by decide +kernel
def rMm (x _y : Nat) : Prop := x = 114
theorem rMm_rSM (x y : Nat) (h : rMm x y) : rSM x y := by
  unfold rMm at h
  unfold rSM
  omega
theorem hasM.m {σ σ' : MM} {C : CO} (h : hasM σ C) (k : kj rMm σ σ') : hasM σ' C := ⟨by rw [k.2 85 50 (by unfold rMm; omega)]; exact h.1, fun i hi => by rw [k.2 112 i (by unfold rMm; omega), k.2 113 i (by unfold rMm; omega)]; exact h.2 i hi⟩
theorem p51 {σ : MM} (l : lay σ) : gP σ 85 5 62 51 = some 114 := by rw [gP_T (T85 l), P85_51 l]
theorem mG {σ : MM} {k : Nat} (l : lay σ) (hk : k < 40960) : aI σ 114 21 (nI k) = some (mI σ 114 k) := aI_T (by rw [T114 l]) (by rw [T114 l]; exact hk) (by rw [T114 l]; decide)
theorem mS {σ : MM} {k : Nat} {v : Int32} (l : lay σ) (hk : k < 40960) : sB σ 114 (nI k) v = some (wI σ 114 k (vp_nar .byte v)) := sB_T (by rw [T114 l]) (by rw [T114 l]; exact hk) (by rw [T114 l]; decide)
/-- what is laid for the sets from s on -/
def hasX (σ : MM) (C : CO) (s : Nat) : Prop := ∀ u, s ≤ u → u < 2 ^ C.1 → ∀ p, p < 10 → mI σ 114 (10 * u + p) = nI (MX (remD C u C.1) p)
theorem or_gt {s k : Nat} (h : ¬ s.testBit k = true) : s < s ||| 2 ^ k := by
  have sub : sub_ s (s ||| 2 ^ k) := fun i hi => or_bit.mpr (Or.inl hi)
  rcases Nat.lt_or_ge s (s ||| 2 ^ k) with q | q
  · exact q
  · have e : s = s ||| 2 ^ k := Nat.le_antisymm sub.le q
    exact absurd (by rw [e]; exact or_bit.mpr (Or.inr rfl)) h
theorem ten_idx (a b : Nat) : (10 : Int32) * nI a + nI b = nI (10 * a + b) := ten_ab a b
theorem e_X6_laysMore {σ : MM} {C : CO} (l : lay σ) (hC : hasM σ C) (hw : coW C) (hn : C.1 ≤ 12) (hF : 100000 ≤ F) : ∃ σ', g_X6_laysMore F σ 85 = some σ' ∧ kj rMm σ σ' ∧ hasX σ' C 0 := by
  have p2 : 2 ^ C.1 ≤ 4096 := (Nat.pow_le_pow_right (by decide) hn : 2 ^ _ ≤ 2 ^ 12)
  have p1 : 0 < 2 ^ C.1 := Nat.pow_pos (by decide)
  unfold g_X6_laysMore
  rw [if_pos (T85 l), gI_T (T85 l), Option.bind_some, hC.1, bx_one (by omega), show (1 : Int32) = nI 1 from rfl, nI_sub p1]
  -- a set
  have set : ∀ (K : MM → Option MM) s t, s < 2 ^ C.1 → kj rMm σ t → hasX t C (s + 1) → ∃ t', kj rMm σ t' ∧ hasX t' C s ∧ l_X6_laysMore_17 K F 85 (nI s) F 0 t = K t' := by
    intro K s t hs k1 x1
    obtain ⟨t9, ⟨k9, x9, y9⟩, e9⟩ := yl1 (l_X6_laysMore_17 K F 85 (nI s)) K (fun p t' => kj rMm σ t' ∧ hasX t' C (s + 1) ∧ ∀ q, q < p → mI t' 114 (10 * s + q) = nI (MX (remD C s C.1) q)) 10 (by
      intro f p t' hp ⟨k2, x2, y2⟩
      have lt := k2.ly l
      have hC2 := hC.m k2
      rw [l_X6_laysMore_17.eq_2, if_pos (ten_in hp)]
      have inner := ylv (fun f' v i σ => l_X6_laysMore_29 (fun (r4_14 : Int32) (σ13 : MM) => (gP σ13 85 5 62 51).bind fun p15 => (sB σ13 p15 (((10 * (nI s)) + (nI p))) (r4_14.toInt8.toInt32)).bind fun σ16 => l_X6_laysMore_17 K F 85 (nI s) f ((nI p + 1)) σ16) F 85 (nI s) (nI p) f' v i σ) (fun r4_14 σ13 => (gP σ13 85 5 62 51).bind fun p15 => (sB σ13 p15 (((10 * (nI s)) + (nI p))) (r4_14.toInt8.toInt32)).bind fun σ16 => l_X6_laysMore_17 K F 85 (nI s) f ((nI p + 1)) σ16) (fun i => nI (mkS C s p i)) t' C.1 (fun f' i hi => by
        (try dsimp only)
        obtain ⟨b1, b2, b3⟩ := hw i hi
        have i12 : i < 12 := by omega
        obtain ⟨c1, c2⟩ := hC2.2 i hi
        have g1 : aI t' 112 20 (nI i) = some (nI (C.2.1 i)) := by rw [aI_T (by rw [T112 lt]) (by rw [T112 lt]; exact i12) (by rw [T112 lt]; decide), c1]
        have g2 : aI t' 113 20 (nI i) = some (nI (C.2.2 i)) := by rw [aI_T (by rw [T113 lt]) (by rw [T113 lt]; exact i12) (by rw [T113 lt]; decide), c2]
        have eT : (C.2.1 i = p ∧ ¬ s.testBit i = true) → mkS C s p (i + 1) = max (mkS C s p i) (1 + MX (remD C (s ||| 2 ^ i) C.1) (C.2.2 i)) := fun q => if_pos q
        have eF : ¬ (C.2.1 i = p ∧ ¬ s.testBit i = true) → mkS C s p (i + 1) = mkS C s p i := fun q => if_neg q
        rw [l_X6_laysMore_29.eq_2, gI_T (T85 lt), Option.bind_some, hC2.1, if_pos (nI_lt hi (by omega)), gP_T (T85 lt), Option.bind_some, P85_48 lt, g1, Option.bind_some, nI_1 i]
        by_cases u1 : C.2.1 i = p
        · rw [if_pos (show nI (C.2.1 i) = nI p by rw [u1]), e_hasM (by omega) (by omega), bq_some]
          by_cases u2 : s.testBit i = true
          · rw [if_pos u2, if_neg (by decide), eF (fun q => q.2 u2)]
          · have og := or_gt u2
            have ol : s ||| 2 ^ i < 2 ^ C.1 := Nat.or_lt_two_pow hs (Nat.pow_lt_pow_right (by decide) hi)
            have b5 := mkS_le (s := s) hw hp i (by omega)
            have b6 := MX_le (remD C s C.1) p
            have b7 := rem_all (s := s) hw C.1 (Nat.le_refl _)
            have b8 := MX_le (remD C (s ||| 2 ^ i) C.1) (C.2.2 i)
            have b9 := rem_all (s := s ||| 2 ^ i) hw C.1 (Nat.le_refl _)
            rw [if_neg u2, if_pos rfl, p51 lt, Option.bind_some, gP_T (T85 lt), Option.bind_some, P85_49 lt, g2, Option.bind_some, bx_one (by omega), bx_or, ten_ab, mG lt (by omega), Option.bind_some, x2 _ (by omega) ol _ b2, show (1 : Int32) = nI 1 from rfl, nI_add, e_maxM (by omega) (by omega), bq_some, eT ⟨u1, u2⟩]
        · rw [if_neg (show ¬ nI (C.2.1 i) = nI p from fun q => u1 ((nI_eq (by omega) (by omega)).mp q)), eF (fun q => u1 q.1)]) (fun f' => by
        (try dsimp only)
        rw [l_X6_laysMore_29.eq_2, gI_T (T85 lt), Option.bind_some, hC2.1, if_neg (nI_nlt (Nat.le_refl _) (by omega))]) (f := F) (by omega)
      have b6 := MX_le (remD C s C.1) p
      have b7 := rem_all (s := s) hw C.1 (Nat.le_refl _)
      refine (show ∃ σ', _ ∧ _ = _ from ?_)
      rw [show l_X6_laysMore_29 (fun (r4_14 : Int32) (σ13 : MM) => (gP σ13 85 5 62 51).bind fun p15 => (sB σ13 p15 (((10 * (nI s)) + (nI p))) (r4_14.toInt8.toInt32)).bind fun σ16 => l_X6_laysMore_17 K F 85 (nI s) f ((nI p + 1)) σ16) F 85 (nI s) (nI p) F 0 0 t' = _ from inner]
      (try dsimp only)
      rw [mkS_eq hw hp, p51 lt, Option.bind_some, ten_ab, mS lt (by omega), Option.bind_some, byte_eq _ (by omega), nI_1 p]
      refine ⟨_, ⟨k2.trans (kj.w rfl), fun u hu hu2 q hq => ?_, fun q hq => ?_⟩, rfl⟩
      · rw [mI_wy (by omega)]; exact x2 u hu hu2 q hq
      · by_cases c : q = p
        · subst c; rw [mI_ws]
        · rw [mI_wy (by omega)]; exact y2 q (by omega)) (by
      intro f t' _
      rw [l_X6_laysMore_17.eq_2, if_neg ten_no]) (f := F) (by omega) ⟨k1, x1, fun q hq => absurd hq (Nat.not_lt_zero q)⟩
    refine ⟨t9, k9, fun u hu hu2 q hq => ?_, e9⟩
    by_cases c : u = s
    · subst c; exact y9 q hq
    · exact x9 u (by omega) hu2 q hq
  have key : ∀ s f t, s < 2 ^ C.1 → s + 1 < f → kj rMm σ t → hasX t C (s + 1) → ∃ t', kj rMm σ t' ∧ hasX t' C 0 ∧ l_X6_laysMore_11 (fun (σ18 : MM) => some σ18) F 85 f (nI s) t = some t' := by
    intro s
    induction s with
    | zero =>
      intro f t hs hf k1 x1
      obtain ⟨f, rfl⟩ : ∃ g, f = g + 1 + 1 := ⟨f - 2, by omega⟩
      rw [l_X6_laysMore_11.eq_2, if_neg (by decide)]
      obtain ⟨t', k2, x2, e2⟩ := set (fun (σ17 : MM) => l_X6_laysMore_11 (fun (σ18 : MM) => some σ18) F 85 (f + 1) ((nI 0 + (-1))) σ17) 0 t hs k1 x1
      rw [e2]
      (try dsimp only)
      rw [l_X6_laysMore_11.eq_2, if_pos (by decide)]
      exact ⟨t', k2, x2, rfl⟩
    | succ s ih =>
      intro f t hs hf k1 x1
      obtain ⟨f, rfl⟩ : ∃ g, f = g + 1 := ⟨f - 1, by omega⟩
      rw [l_X6_laysMore_11.eq_2, if_neg (nI_pos (by omega))]
      obtain ⟨t', k2, x2, e2⟩ := set (fun (σ17 : MM) => l_X6_laysMore_11 (fun (σ18 : MM) => some σ18) F 85 f ((nI (s + 1) + (-1))) σ17) (s + 1) t hs k1 x1
      rw [e2]
      (try dsimp only)
      rw [show nI (s + 1) + (-1) = nI s from (Int32.sub_eq_add_neg (nI (s + 1)) 1).symm.trans (nI_pred s)]
      exact ih f t' (by omega) (by omega) k2 x2
  obtain ⟨t, k1, x1, e1⟩ := key (2 ^ C.1 - 1) F σ (by omega) (by omega) kj.refl (fun u hu hu2 => absurd hu (by omega))
  exact ⟨t, e1, k1, x1⟩
end MOSTM
