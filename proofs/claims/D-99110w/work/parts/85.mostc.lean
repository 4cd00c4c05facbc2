/-! THE MOST IN A ROW, the call -/
theorem remD_cong {C C' : CO} {s : Nat} : ∀ n, (∀ i, i < n → C.2.1 i = C'.2.1 i ∧ C.2.2 i = C'.2.2 i) → remD C s n = remD C' s n
  | 0, _ => rfl
  | n + 1, h => by
    have ih := remD_cong (C := C) (C' := C') (s := s) n (fun i hi => h i (by omega))
    by_cases c : s.testBit n = true
    · rw [remD_T c, remD_T c, ih]
    · rw [remD_F c, remD_F c, ih, (h n (by omega)).1, (h n (by omega)).2]
theorem rem_add {a b : Nat} {s : CO} : remD (addC a b s) 0 (addC a b s).1 = incD (remD s 0 s.1) a b := by
  have e1 : (addC a b s).2.1 s.1 = a := if_pos rfl
  have e2 : (addC a b s).2.2 s.1 = b := if_pos rfl
  show remD (addC a b s) 0 (s.1 + 1) = _
  rw [remD_F (by rw [Nat.zero_testBit]; decide), e1, e2, remD_cong (C' := s) s.1 (fun i hi => ⟨if_neg (by omega), if_neg (by omega)⟩)]
theorem rem_K {a b x y : Nat} {s : CO} : ∀ k, remD (coK a b k s) 0 (coK a b k s).1 x y = remD s 0 s.1 x y + (if x = a ∧ y = b then k else 0)
  | 0 => by
    show remD s 0 s.1 x y = _
    split <;> rfl
  | k + 1 => by
    have ih := rem_K (a := a) (b := b) (x := x) (y := y) (s := s) k
    show remD (addC a b (coK a b k s)) 0 (addC a b (coK a b k s)).1 x y = _
    rw [rem_add]
    unfold incD
    by_cases c : x = a ∧ y = b
    · rw [if_pos c] at ih ⊢
      rw [if_pos c, ih]; omega
    · rw [if_neg c] at ih ⊢
      rw [if_neg c, ih]
theorem rem_B {d : Nat → Nat → Nat} {a x y : Nat} {s : CO} : ∀ n, remD (coB d a n s) 0 (coB d a n s).1 x y = remD s 0 s.1 x y + (if x = a ∧ y < n then d a y else 0)
  | 0 => by
    rw [coB.eq_1, if_neg (by omega)]; rfl
  | n + 1 => by
    have ih := rem_B (d := d) (a := a) (x := x) (y := y) (s := s) n
    rw [coB.eq_2, rem_K, ih]
    by_cases c : x = a ∧ y = n
    · rw [if_pos c, if_neg (by omega), if_pos (by omega), c.2]
      omega
    · rw [if_neg c]
      by_cases c2 : x = a ∧ y < n
      · rw [if_pos c2, if_pos (by omega)]; rfl
      · rw [if_neg c2, if_neg (by omega)]
theorem rem_A {d : Nat → Nat → Nat} {x y : Nat} {s : CO} (hy : y < 10) : ∀ n, remD (coA d n s) 0 (coA d n s).1 x y = remD s 0 s.1 x y + (if x < n then d x y else 0)
  | 0 => by
    rw [coA.eq_1, if_neg (by omega)]; rfl
  | n + 1 => by
    have ih := rem_A (d := d) (x := x) (y := y) (s := s) hy n
    rw [coA_s, rem_B, ih]
    by_cases c : x = n
    · rw [if_neg (by omega), if_pos ⟨c, hy⟩, if_pos (by omega), c]
      omega
    · rw [if_neg (show ¬ (x = n ∧ y < 10) by omega)]
      by_cases c2 : x < n
      · rw [if_pos c2, if_pos (by omega)]; rfl
      · rw [if_neg c2, if_neg (by omega)]
def agr (d d' : Nat → Nat → Nat) : Prop := ∀ a, a < 10 → ∀ b, b < 10 → d a b = d' a b
theorem rem_0 (d : Nat → Nat → Nat) : agr (remD (coins d) 0 (coins d).1) d := by
  intro a ha b hb
  unfold coins
  rw [rem_A hb, if_pos ha]
  show 0 + d a b = d a b
  omega
theorem agr.all {d d' : Nat → Nat → Nat} (h : agr d d') : allS d = allS d' := sm_congr 10 (fun a ha => sm_congr 10 (fun b hb => h a ha b hb))
theorem agr.dec {d d' : Nat → Nat → Nat} (h : agr d d') (x y : Nat) : agr (decD d x y) (decD d' x y) := fun a ha b hb => by
  unfold decD
  rw [h a ha b hb]
theorem mx_agr : ∀ n d d' p, agr d d' → p < 10 → mx n d p = mx n d' p
  | 0, d, d', p, _, _ => by rw [mx.eq_1, mx.eq_1]
  | n + 1, d, d', p, h, hp => by
    rw [mx_s, mx_s]
    refine mxl_congr 10 (fun b hb => ?_)
    unfold fS
    rw [h p hp b hb, mx_agr n _ _ b (h.dec p b) hb]
theorem fS_agr {n : Nat} {d d' : Nat → Nat → Nat} {p b : Nat} (h : agr d d') (hp : p < 10) (hb : b < 10) : fS n d p b = fS n d' p b := by
  unfold fS
  rw [h p hp b hb, mx_agr n _ _ b (h.dec p b) hb]
theorem bst_lt (f : Nat → Nat) : ∀ k, 0 < k → bst f k < k
  | 0, h => absurd h (Nat.lt_irrefl 0)
  | k + 1, _ => by
    show (if mxl f k < f k then k else bst f k) < k + 1
    split
    · omega
    · cases k with
      | zero => show 0 < 1; omega
      | succ k => have := bst_lt f (k + 1) (by omega); omega
theorem itM_agr : ∀ j n d d' p, agr d d' → p < 10 → (itM j (n, d, p)).1 = (itM j (n, d', p)).1 ∧ agr (itM j (n, d, p)).2.1 (itM j (n, d', p)).2.1 ∧ (itM j (n, d, p)).2.2 = (itM j (n, d', p)).2.2
  | 0, n, d, d', p, h, _ => ⟨rfl, h, rfl⟩
  | j + 1, n, d, d', p, h, hp => by
    have e : bst (fS (n - 1) d p) 10 = bst (fS (n - 1) d' p) 10 := bst_congr 10 (fun b hb => fS_agr h hp hb)
    show (itM j (n - 1, decD d p (bst (fS (n - 1) d p) 10), bst (fS (n - 1) d p) 10)).1 = (itM j (n - 1, decD d' p (bst (fS (n - 1) d' p) 10), bst (fS (n - 1) d' p) 10)).1 ∧ _
    show _ ∧ agr (itM j (n - 1, decD d p (bst (fS (n - 1) d p) 10), bst (fS (n - 1) d p) 10)).2.1 (itM j (n - 1, decD d' p (bst (fS (n - 1) d' p) 10), bst (fS (n - 1) d' p) 10)).2.1 ∧ (itM j (n - 1, decD d p (bst (fS (n - 1) d p) 10), bst (fS (n - 1) d p) 10)).2.2 = (itM j (n - 1, decD d' p (bst (fS (n - 1) d' p) 10), bst (fS (n - 1) d' p) 10)).2.2
    rw [e]
    exact itM_agr j (n - 1) _ _ _ (h.dec p _) (bst_lt _ 10 (by decide))
theorem one_nI (a : Nat) : (1 : Int32) + nI a = nI (1 + a) := by rw [show (1 : Int32) = nI 1 from rfl, nI_add]
/-- the coin to the lowest one -/
def cnS (C : CO) (s p k : Nat) : Prop := C.2.1 k = p ∧ ¬ s.testBit k = true ∧ 1 + MX (remD C (s ||| 2 ^ k) C.1) (C.2.2 k) = MX (remD C s C.1) p
def cnB (C : CO) (s p k : Nat) : Bool := decide (C.2.1 k = p) && (!s.testBit k) && decide (1 + MX (remD C (s ||| 2 ^ k) C.1) (C.2.2 k) = MX (remD C s C.1) p)
theorem cnB_iff {C : CO} {s p k : Nat} : cnB C s p k = true ↔ cnS C s p k := by
  unfold cnB cnS
  rw [Bool.and_eq_true, Bool.and_eq_true, decide_eq_true_iff, decide_eq_true_iff, Bool.not_eq_true', ← Bool.not_eq_true]
  exact ⟨fun q => ⟨q.1.1, q.1.2, q.2⟩, fun q => ⟨⟨q.1, q.2.1⟩, q.2.2⟩⟩
def bcS (C : CO) (s p : Nat) : Nat → Nat
  | 0 => 0
  | k + 1 => if cnB C s p k = true ∧ (bcS C s p k = 0 ∨ C.2.2 k < C.2.2 (bcS C s p k - 1)) then k + 1 else bcS C s p k
theorem bcS_inv {C : CO} {s p : Nat} : ∀ k, (bcS C s p k = 0 → ∀ i, i < k → ¬ cnS C s p i) ∧ (bcS C s p k ≠ 0 → bcS C s p k - 1 < k ∧ cnS C s p (bcS C s p k - 1) ∧ ∀ i, i < k → cnS C s p i → C.2.2 (bcS C s p k - 1) ≤ C.2.2 i)
  | 0 => ⟨fun _ i hi => absurd hi (Nat.not_lt_zero i), fun q => absurd rfl q⟩
  | k + 1 => by
    obtain ⟨h1, h2⟩ := bcS_inv (C := C) (s := s) (p := p) k
    have e : bcS C s p (k + 1) = if cnB C s p k = true ∧ (bcS C s p k = 0 ∨ C.2.2 k < C.2.2 (bcS C s p k - 1)) then k + 1 else bcS C s p k := rfl
    rw [e]
    by_cases c : cnB C s p k = true ∧ (bcS C s p k = 0 ∨ C.2.2 k < C.2.2 (bcS C s p k - 1))
    · rw [if_pos c]
      refine ⟨fun q => absurd q (by omega), fun _ => ⟨by omega, cnB_iff.mp c.1, fun i hi ci => ?_⟩⟩
      rw [Nat.add_sub_cancel]
      by_cases q : i = k
      · subst q; exact Nat.le_refl _
      · rcases c.2 with c2 | c2
        · exact absurd ci (h1 c2 i (by omega))
        · by_cases z : bcS C s p k = 0
          · exact absurd ci (h1 z i (by omega))
          · have := (h2 z).2.2 i (by omega) ci
            omega
    · rw [if_neg c]
      refine ⟨fun q i hi ci => ?_, fun q => ⟨by have := (h2 q).1; omega, (h2 q).2.1, fun i hi ci => ?_⟩⟩
      · by_cases z : i = k
        · subst z; exact c ⟨cnB_iff.mpr ci, Or.inl q⟩
        · exact h1 q i (by omega) ci
      · by_cases z : i = k
        · subst z
          exact Nat.le_of_not_lt (fun u => c ⟨cnB_iff.mpr ci, Or.inr u⟩)
        · exact (h2 q).2.2 i (by omega) ci
theorem bcS_bst {C : CO} {s p : Nat} (hw : coW C) (hp : p < 10) (h : 0 < MX (remD C s C.1) p) : bcS C s p C.1 ≠ 0 ∧ bcS C s p C.1 - 1 < C.1 ∧ cnS C s p (bcS C s p C.1 - 1) ∧ C.2.2 (bcS C s p C.1 - 1) = bst (fX (remD C s C.1) p) 10 := by
  rw [MX_x hp] at h
  obtain ⟨b1, b2, b3⟩ := bst_is 10 h
  have hm := MX_x (d := remD C s C.1) hp
  obtain ⟨i1, i2⟩ := bcS_inv (C := C) (s := s) (p := p) C.1
  -- the best one has a coin
  have ex : ∃ i, i < C.1 ∧ cnS C s p i ∧ C.2.2 i = bst (fX (remD C s C.1) p) 10 := by
    have pos : 0 < remD C s C.1 p (bst (fX (remD C s C.1) p) 10) := by
      apply Classical.byContradiction
      intro q
      have : fX (remD C s C.1) p (bst (fX (remD C s C.1) p) 10) = 0 := if_neg q
      omega
    obtain ⟨k, hk, u1, u2, u3⟩ := (remD_pos C.1).mp pos
    refine ⟨k, hk, ⟨u2, u1, ?_⟩, u3⟩
    rw [← mkS_f hk u2 u1, u3, b2, hm]
  obtain ⟨i, hi, ci, ei⟩ := ex
  have nz : bcS C s p C.1 ≠ 0 := fun q => i1 q i hi ci
  obtain ⟨j1, j2, j3⟩ := i2 nz
  refine ⟨nz, j1, j2, ?_⟩
  have le := j3 i hi ci
  rcases Nat.lt_or_ge (C.2.2 (bcS C s p C.1 - 1)) (bst (fX (remD C s C.1) p) 10) with q | q
  · have := b3 _ q
    rw [mkS_f j1 j2.1 j2.2.1, j2.2.2, hm] at this
    exact absurd this (Nat.lt_irrefl _)
  · omega
section MOSTC
variable {B F : Nat} {G : GG}
theorem e_X6_bestCoin {σ : MM} {C : CO} {s p : Nat} (l : lay σ) (hC : hasM σ C) (hw : coW C) (hn : C.1 ≤ 12) (hX : hasX σ C 0) (hs : s < 2 ^ C.1) (hp : p < 10) (hF : 100000 ≤ F) : g_X6_bestCoin F σ 85 (nI s) (nI p) = some (bvC (bcS C s p C.1), σ) := by
  have p2 : 2 ^ C.1 ≤ 4096 := (Nat.pow_le_pow_right (by decide) hn : 2 ^ _ ≤ 2 ^ 12)
  unfold g_X6_bestCoin
  rw [if_pos (T85 l)]
  refine ylv (fun f v i σ => l_X6_bestCoin_5 (fun (r3_17 : Int32) (σ16 : MM) => some (r3_17, σ16)) F 85 (nI s) (nI p) f v i σ) (fun v σ => some (v, σ)) (fun i => bvC (bcS C s p i)) σ C.1 (fun f i hi => ?_) (fun f => ?_) (f := F) (by omega)
  · (try dsimp only)
    obtain ⟨b1, b2, b3⟩ := hw i hi
    have g1 : ∀ j, j < C.1 → aI σ 112 20 (nI j) = some (nI (C.2.1 j)) := fun j hj => by
      have j12 : j < 12 := by omega
      rw [aI_T (by rw [T112 l]) (by rw [T112 l]; exact j12) (by rw [T112 l]; decide), (hC.2 j hj).1]
    have g2 : ∀ j, j < C.1 → aI σ 113 20 (nI j) = some (nI (C.2.2 j)) := fun j hj => by
      have j12 : j < 12 := by omega
      rw [aI_T (by rw [T113 l]) (by rw [T113 l]; exact j12) (by rw [T113 l]; decide), (hC.2 j hj).2]
    have p48 : gP σ 85 5 62 48 = some 112 := by rw [gP_T (T85 l), P85_48 l]
    have p49 : gP σ 85 5 62 49 = some 113 := by rw [gP_T (T85 l), P85_49 l]
    have eT : (cnB C s p i = true ∧ (bcS C s p i = 0 ∨ C.2.2 i < C.2.2 (bcS C s p i - 1))) → bcS C s p (i + 1) = i + 1 := fun q => if_pos q
    have eF : ¬ (cnB C s p i = true ∧ (bcS C s p i = 0 ∨ C.2.2 i < C.2.2 (bcS C s p i - 1))) → bcS C s p (i + 1) = bcS C s p i := fun q => if_neg q
    have eN : bvC (i + 1) = nI i := if_neg (by omega)
    rw [l_X6_bestCoin_5.eq_2, gI_T (T85 l), Option.bind_some, hC.1, if_pos (nI_lt hi (by omega)), p48, Option.bind_some, g1 i hi, Option.bind_some, nI_1 i]
    by_cases u1 : C.2.1 i = p
    · rw [if_pos (show nI (C.2.1 i) = nI p by rw [u1]), e_hasM (by omega) (by omega), bq_some]
      by_cases u2 : s.testBit i = true
      · rw [if_pos u2, if_neg (by decide), eF (fun q => (cnB_iff.mp q.1).2.1 u2)]
      · have ol : s ||| 2 ^ i < 2 ^ C.1 := Nat.or_lt_two_pow hs (Nat.pow_lt_pow_right (by decide) hi)
        have b6 := MX_le (remD C s C.1) p
        have b7 := rem_all (s := s) hw C.1 (Nat.le_refl _)
        have b8 := MX_le (remD C (s ||| 2 ^ i) C.1) (C.2.2 i)
        have b9 := rem_all (s := s ||| 2 ^ i) hw C.1 (Nat.le_refl _)
        have x1 : aI σ 114 21 (nI (10 * (s ||| 2 ^ i) + C.2.2 i)) = some (nI (MX (remD C (s ||| 2 ^ i) C.1) (C.2.2 i))) := by rw [mG l (by omega), hX _ (Nat.zero_le _) ol _ b2]
        have x2 : aI σ 114 21 (nI (10 * s + p)) = some (nI (MX (remD C s C.1) p)) := by rw [mG l (by omega), hX _ (Nat.zero_le _) hs _ hp]
        rw [if_neg u2, if_pos rfl, p51 l, Option.bind_some, p49, Option.bind_some, g2 i hi, Option.bind_some, bx_one (by omega), bx_or, ten_ab, x1, Option.bind_some, Option.bind_some, ten_ab, x2, Option.bind_some, one_nI]
        by_cases u3 : 1 + MX (remD C (s ||| 2 ^ i) C.1) (C.2.2 i) = MX (remD C s C.1) p
        · have cn : cnB C s p i = true := cnB_iff.mpr ⟨u1, u2, u3⟩
          rw [if_pos (by rw [u3])]
          by_cases u4 : bcS C s p i = 0
          · have e0 : bvC (bcS C s p i) = -1 := if_pos u4
            rw [e0, if_pos rfl, eT ⟨cn, Or.inl u4⟩, eN]
          · have e0 : bvC (bcS C s p i) = nI (bcS C s p i - 1) := if_neg u4
            have j1 := ((bcS_inv (C := C) (s := s) (p := p) i).2 u4).1
            have jj := hw (bcS C s p i - 1) (by omega)
            rw [e0, if_neg (nI_neN (by omega)), Option.bind_some, g2 i hi, Option.bind_some, Option.bind_some, g2 _ (by omega), Option.bind_some]
            by_cases u5 : C.2.2 i < C.2.2 (bcS C s p i - 1)
            · rw [if_pos (nI_lt u5 (by omega)), eT ⟨cn, Or.inr u5⟩, eN]
            · rw [if_neg (nI_nlt (by omega) (by omega)), eF (fun q => q.2.elim u4 u5), e0]
        · rw [if_neg (fun q => u3 ((nI_eq (by omega) (by omega)).mp q)), eF (fun q => u3 (cnB_iff.mp q.1).2.2)]
    · rw [if_neg (show ¬ nI (C.2.1 i) = nI p from fun q => u1 ((nI_eq (by omega) (by omega)).mp q)), eF (fun q => u1 (cnB_iff.mp q.1).1)]
  · (try dsimp only)
    rw [l_X6_bestCoin_5.eq_2, gI_T (T85 l), Option.bind_some, hC.1, if_neg (nI_nlt (Nat.le_refl _) (by omega))]
/-- step by step -/
theorem most_M {σ : MM} {C : CO} {h0 w : Nat} (l : lay σ) (hC : hasM σ C) (hw : coW C) (hn : C.1 ≤ 12) (hX : hasX σ C 0) (hh : h0 < 10) (hlt : w < MX (remD C 0 C.1) h0) (hw12 : w < 12) (hF : 100000 ≤ F) : l_X6_most_102 (fun (r3_21 : Int32) (σ20 : MM) => some (r3_21, σ20)) F 85 (nI w) F 0 (nI h0) 0 σ = some (nI (pthM (allS (remD C 0 C.1), remD C 0 C.1, h0) w), σ) := by
  have p2 : 2 ^ C.1 ≤ 4096 := (Nat.pow_le_pow_right (by decide) hn : 2 ^ _ ≤ 2 ^ 12)
  have p1 : 0 < 2 ^ C.1 := Nat.pow_pos (by decide)
  obtain ⟨x0, hx0⟩ : ∃ x0 : MS, (allS (remD C 0 C.1), remD C 0 C.1, h0) = x0 := ⟨_, rfl⟩
  have key : ∀ n j f s, j + n = w + 1 → n < f → s < 2 ^ C.1 → remD C s C.1 = (itM j x0).2.1 → (itM j x0).2.2 < 10 → (itM j x0).1 = allS (itM j x0).2.1 → MX (remD C s C.1) (itM j x0).2.2 + j = MX (remD C 0 C.1) h0 → l_X6_most_102 (fun (r3_21 : Int32) (σ20 : MM) => some (r3_21, σ20)) F 85 (nI w) f (nI s) (nI (itM j x0).2.2) (nI j) σ = some (nI (pthM x0 w), σ) := by
    intro n
    induction n with
    | zero =>
      intro j f s e hf hs hr hp ha hm
      obtain ⟨f, rfl⟩ : ∃ g, f = g + 1 := ⟨f - 1, by omega⟩
      have e : j = w + 1 := by omega
      subst e
      rw [l_X6_most_102.eq_2, if_pos (nI_lt (by omega) (by omega))]
      rfl
    | succ n ih =>
      intro j f s e hf hs hr hp ha hm
      obtain ⟨f, rfl⟩ : ∃ g, f = g + 1 := ⟨f - 1, by omega⟩
      obtain ⟨z1, z2, z3, z4⟩ := bcS_bst (C := C) (s := s) hw hp (by omega)
      have eb : bvC (bcS C s (itM j x0).2.2 C.1) = nI (bcS C s (itM j x0).2.2 C.1 - 1) := if_neg z1
      obtain ⟨k, hk⟩ : ∃ k, bcS C s (itM j x0).2.2 C.1 - 1 = k := ⟨_, rfl⟩
      rw [hk] at z2 z3 z4 eb
      have k12 : k < 12 := by omega
      have g2 : aI σ 113 20 (nI k) = some (nI (C.2.2 k)) := by rw [aI_T (by rw [T113 l]) (by rw [T113 l]; exact k12) (by rw [T113 l]; decide), (hC.2 k z2).2]
      have ol : s ||| 2 ^ k < 2 ^ C.1 := Nat.or_lt_two_pow hs (Nat.pow_lt_pow_right (by decide) z2)
      have pos : 0 < remD C s C.1 (itM j x0).2.2 (C.2.2 k) := (remD_pos C.1).mpr ⟨k, z2, z3.2.1, z3.1, rfl⟩
      have b10 := (hw k z2).2.1
      have ad := all_dec hp b10 pos
      -- the step
      have same : bst (fS ((itM j x0).1 - 1) (itM j x0).2.1 (itM j x0).2.2) 10 = C.2.2 k := by
        rw [z4]
        refine bst_congr 10 (fun b hb => ?_)
        unfold fS fX
        rw [← hr]
        by_cases c : 0 < remD C s C.1 (itM j x0).2.2 b
        · have := all_dec hp hb c
          rw [if_pos c, if_pos c]
          unfold MX
          rw [ha, ← hr, show allS (remD C s C.1) - 1 = allS (decD (remD C s C.1) (itM j x0).2.2 b) by omega]
        · rw [if_neg c, if_neg c]
      have stp : itM (j + 1) x0 = ((itM j x0).1 - 1, decD (itM j x0).2.1 (itM j x0).2.2 (C.2.2 k), C.2.2 k) := by
        rw [itM_s]
        unfold stpM
        rw [same]
      have rem' : remD C (s ||| 2 ^ k) C.1 = decD (itM j x0).2.1 (itM j x0).2.2 (C.2.2 k) := by rw [remD_or C.1 z2 z3.2.1, hr, z3.1]
      rw [l_X6_most_102.eq_2, if_neg (nI_nlt (by omega) (by omega)), e_X6_bestCoin l hC hw hn hX hs hp hF, bq_some, eb, gP_T (T85 l), Option.bind_some, P85_49 l, g2, Option.bind_some, bx_one (by omega), bx_or, nI_1]
      have := ih (j + 1) f (s ||| 2 ^ k) (by omega) (by omega) ol (by rw [stp]; exact rem') (by rw [stp]; exact b10) (by
        rw [stp]
        show (itM j x0).1 - 1 = allS (decD (itM j x0).2.1 (itM j x0).2.2 (C.2.2 k))
        rw [ha, ← hr]
        omega) (by
        rw [stp]
        show MX (remD C (s ||| 2 ^ k) C.1) (C.2.2 k) + (j + 1) = _
        have := z3.2.2
        omega)
      rw [stp] at this
      exact this
  have := key (w + 1) 0 F 0 (by omega) (by omega) p1 (by rw [← hx0]; rfl) (by rw [← hx0]; exact hh) (by rw [← hx0]; rfl) (by rw [← hx0]; rfl)
  rw [← hx0] at this
  exact this
theorem call_most (hG : GW B G) (hF : 100000 ≤ F) (a : Int32) : Call B G (fun σ => g_X0_most F σ 1 a) (fun τ => g_X6_most F τ 85 a) := by
  unfold g_X0_most g_X6_most
  have all9900 : allS G.S.1 ≤ 9900 := Nat.le_trans (sm_le (M := 990) 10 (fun a ha => owes_le hG.2.2.1.b99 ha)) (by decide)
  have ok : (∃ w, (w < 12 ∨ w = 100) ∧ a = nI w) ∨ (a ≠ 100 ∧ (∀ F σ, g_X0_in F σ a 12 = some (0, σ)) ∧ ∀ F σ, g_X6_in F σ a 0 11 = some (0, σ)) := by
    by_cases c : a = 100
    · exact Or.inl ⟨100, Or.inr rfl, c⟩
    · rcases in_is (x := a) (n := 12) (by decide) (by decide) with ⟨k, h1, e⟩ | ⟨m1, m2⟩
      · exact Or.inl ⟨k, Or.inl h1, e⟩
      · exact Or.inr ⟨c, m1, m2⟩
  rcases ok with ⟨w, hw, rfl⟩ | ⟨c, m1, m2⟩
  · have w100 : nI w = 100 ↔ w = 100 := nI_eq (b := 100) (by omega) (by decide)
    have x1 : ∀ (K : MM → Option (Int32 × MM)) F σ, jn K (fun k2 => if nI w = 100 then (k2 σ) else (bq (g_X0_in F σ (nI w) 12) fun v23 σ22 => if v23 = 0 then (some ((-1 : Int32), σ22)) else (k2 σ22))) = K σ := by
      intro K F σ
      dsimp only [jn]
      by_cases c : w = 100
      · rw [if_pos (w100.mpr c)]
      · rw [if_neg (fun q => c (w100.mp q)), show (12 : Int32) = nI 12 from rfl, in_yes (by omega) (by decide), bq_some, if_neg (by decide)]
    have x2 : ∀ (K : MM → Option (Int32 × MM)) F σ, (bq (g_X6_in F σ (nI w) 0 11) fun v2 σ1 => if v2 = 0 then (if nI w = 100 then (K σ1) else (some ((-1 : Int32), σ1))) else (K σ1)) = K σ := by
      intro K F σ
      unfold g_X6_in
      by_cases c : w = 100
      · subst c
        rw [if_neg (by decide), if_pos (by decide), bq_some, if_pos rfl, if_pos (show nI 100 = 100 from rfl)]
      · rw [if_neg (show ¬ nI w < 0 from nI_pos (by omega)), if_neg (show ¬ 11 < nI w from nI_nlt (a := 11) (by omega) (by decide)), bq_some, if_neg (by decide)]
    by_cases hq : G.S.2.2.2 0 < 10
    · by_cases hm : allS G.S.1 ≤ 12
      · have hn : (coins G.S.1).1 ≤ 12 := by rw [coins_n]; exact hm
        have hcw := coins_W hG.2.2.1
        have ag := rem_0 G.S.1
        have eM : MX (remD (coins G.S.1) 0 (coins G.S.1).1) (G.S.2.2.2 0) = MX G.S.1 (G.S.2.2.2 0) := by unfold MX; rw [ag.all, mx_agr _ _ _ _ ag hq]
        have eP : ∀ j, pthM (allS (remD (coins G.S.1) 0 (coins G.S.1).1), remD (coins G.S.1) 0 (coins G.S.1).1, G.S.2.2.2 0) j = pthM (allS G.S.1, G.S.1, G.S.2.2.2 0) j := fun j => by
          unfold pthM
          rw [ag.all]
          exact (itM_agr (j + 1) _ _ _ _ ag hq).2.2
        have mle := MX_le G.S.1 (G.S.2.2.2 0)
        refine call_same hG (if w = 100 then nI (MX G.S.1 (G.S.2.2.2 0)) else if w < MX G.S.1 (G.S.2.2.2 0) then nI (pthM (allS G.S.1, G.S.1, G.S.2.2.2 0) w) else -4) (fun σ h => ?_) (fun τ h => ?_)
        · have l := h.l
          obtain ⟨s0, e0, k0, d0⟩ := e_X4_takes (F := F) (lay_isB55 l) (d5.B l) h.2.1.1 (Or.inr (by omega)) (by omega)
          have k0j := k0.j (R := rMo) (fun x y q => by have q : 55 + 2 ≤ x ∧ x < 55 + 12 := q; exact Or.inl ⟨by omega, by omega⟩)
          have k1 : kj rMo σ (wI s0 1 15 0) := k0j.trans (kj.w (Or.inr ⟨rfl, rfl⟩))
          have h1 := h.s k1 rMo_rSC
          have l1 := h1.l
          have d1 : hasD (wI s0 1 15 0) 55 G.S.1 := fun x hx y hy => by rw [mI_wn (by omega)]; exact d0 x hx y hy
          obtain ⟨s2, e2, k2, d2, r2, p2a, p2b, p2c⟩ := dfs_C (F := F) hF (allS G.S.1) G.S.1 (G.S.2.2.2 0) 0 64 (wI s0 1 15 0) 0 rfl hG.2.2.1.b99 hq (by omega) (by omega) (by omega) l1 d1 mI_ws
          have k12 := k1.trans k2
          have h2 := h.s k12 rMo_rSC
          have l2 := h2.l
          have b15 : mI s2 1 15 = nI (MX G.S.1 (G.S.2.2.2 0)) := by rw [p2a]; congr 1; show max 0 (0 + mx (allS G.S.1) G.S.1 (G.S.2.2.2 0)) = mx (allS G.S.1) G.S.1 (G.S.2.2.2 0); omega
          have er : g_X0_longest F (wI s0 1 15 0) 1 (nI (G.S.2.2.2 0)) 0 = some s2 := e2
          refine ⟨s2, ?_, k12.mono rMo_rSC⟩
          (try dsimp only)
          rw [if_pos (T1 l)]
          rw [x1 _ F σ]
          (try dsimp only)
          have h3 : gI σ 5 2 16 3 = some (nI (G.S.2.2.2 0)) := by rw [gI_T (T5 l), h.2.1.2.2.2.1, pv_lt hq]
          have h31 : gI (wI s0 1 15 0) 5 2 16 3 = some (nI (G.S.2.2.2 0)) := by rw [gI_T (T5 l1), h1.2.1.2.2.2.1, pv_lt hq]
          have l0 : lay s0 := k0.ly l
          rw [gP_T (T1 l), Option.bind_some, P1_4 l, h3, Option.bind_some, if_neg (by rw [← pv_lt hq]; exact pv_ne hq), Option.bind_some, dbP l d5, Option.bind_some, e_X4_all (d5.B l) h.2.1.1 (by omega), bq_some, if_neg (show ¬ 12 < nI (allS G.S.1) from nI_nlt (a := 12) hm (by decide)), kO l, Option.bind_some, gP_T (T1 l), Option.bind_some, P1_4 l, dbP l d5, Option.bind_some, e0, bq_some, pI_T (T1 l0), Option.bind_some, gP_T (T1 l1), Option.bind_some, P1_4 l1, h31, Option.bind_some, er, Option.bind_some]
          by_cases c : w = 100
          · rw [if_pos (w100.mpr c), if_pos c, gI_T (T1 l2), Option.bind_some, b15]
          · rw [if_neg (fun q => c (w100.mp q)), if_neg c, gI_T (T1 l2), Option.bind_some, b15]
            by_cases c2 : w < MX G.S.1 (G.S.2.2.2 0)
            · have := (p2b (by show 0 < 0 + MX G.S.1 (G.S.2.2.2 0); omega)).2 w c2
              rw [Nat.zero_add] at this
              rw [if_pos (nI_lt c2 (by omega)), if_pos c2, j68 l2, Option.bind_some, jG l2 (Or.inr rfl) (by omega), Option.bind_some, this]
            · rw [if_neg (nI_nlt (by omega) (by omega)), if_neg c2]
        · have l := h.l
          obtain ⟨z, s, e, k1, hz⟩ := e_X6_laysCoins (F := F) (M := 12) hG h (Nat.le_refl _) hF
          have h1 := h.s k1 rCm_rSM
          rcases hz with ⟨q, -⟩ | ⟨-, rfl, hc⟩
          · omega
          · obtain ⟨s2, e2, k2, x2'⟩ := e_X6_laysMore (F := F) h1.l hc hcw hn hF
            have k12 : kj rSM τ s2 := (k1.mono rCm_rSM).trans (k2.mono rMm_rSM)
            have h2 := h.s k12 (fun _ _ q => q)
            have l2 := h2.l
            have hc2 := hc.m k2
            have p1 : 0 < 2 ^ (coins G.S.1).1 := Nat.pow_pos (by decide)
            have a3 : ∀ {t : MM}, MI t G → aI t 86 20 151 = some (nI (G.S.2.2.2 0)) := fun ht => by rw [a151 ht.l, ht.2.1.2.2.2.1, qv_lt hq]
            have g0 : aI s2 114 21 (nI (G.S.2.2.2 0)) = some (nI (MX G.S.1 (G.S.2.2.2 0))) := by
              have := x2' 0 (Nat.le_refl _) p1 (G.S.2.2.2 0) hq
              rw [Nat.mul_zero, Nat.zero_add] at this
              rw [mG l2 (by omega), this, eM]
            refine ⟨s2, ?_, k12⟩
            (try dsimp only)
            rw [if_pos (T85 l)]
            dsimp only [jn]
            rw [x2, gN l, Option.bind_some, a3 h, Option.bind_some, if_neg (nI_pos (by omega)), show (12 : Int32) = nI 12 from rfl, e, bq_some, if_neg (by decide), e2, Option.bind_some]
            by_cases c : w = 100
            · rw [if_pos (w100.mpr c), if_pos c, p51 l2, Option.bind_some, gN l2, Option.bind_some, a3 h2, Option.bind_some, g0, Option.bind_some]
            · rw [if_neg (fun q => c (w100.mp q)), if_neg c, p51 l2, Option.bind_some, gN l2, Option.bind_some, a3 h2, Option.bind_some, g0, Option.bind_some]
              by_cases c2 : w < MX G.S.1 (G.S.2.2.2 0)
              · rw [if_pos (nI_lt c2 (by omega)), if_pos c2, Option.bind_some, a3 h2, Option.bind_some, most_M l2 hc2 hcw hn x2' hq (by rw [eM]; exact c2) (by omega) hF, eP]
              · rw [if_neg (nI_nlt (by omega) (by omega)), if_neg c2]
      · refine call_same hG (-3) (fun σ h => ⟨σ, ?_, kj.refl⟩) (fun τ h => ?_)
        · have l := h.l
          (try dsimp only)
          rw [if_pos (T1 l)]
          rw [x1 _ F σ]
          (try dsimp only)
          have h3 : gI σ 5 2 16 3 = some (nI (G.S.2.2.2 0)) := by rw [gI_T (T5 l), h.2.1.2.2.2.1, pv_lt hq]
          rw [gP_T (T1 l), Option.bind_some, P1_4 l, h3, Option.bind_some, if_neg (by rw [← pv_lt hq]; exact pv_ne hq), Option.bind_some, dbP l d5, Option.bind_some, e_X4_all (d5.B l) h.2.1.1 (by omega), bq_some, if_pos (show 12 < nI (allS G.S.1) from nI_lt (a := 12) (by omega) (by omega))]
        · have l := h.l
          obtain ⟨z, s, e, k1, hz⟩ := e_X6_laysCoins (F := F) (M := 12) hG h (Nat.le_refl _) hF
          refine ⟨s, ?_, k1.mono rCm_rSM⟩
          rcases hz with ⟨-, rfl⟩ | ⟨q, -⟩
          · (try dsimp only)
            rw [if_pos (T85 l)]
            dsimp only [jn]
            rw [x2, gN l, Option.bind_some, a151 l, Option.bind_some, h.2.1.2.2.2.1, if_neg (qv_ne hq), show (12 : Int32) = nI 12 from rfl, e, bq_some, if_pos rfl]
          · omega
    · have h10 : G.S.2.2.2 0 = 10 := by have := hG.2.2.1.2.2.1; omega
      refine call_look hG (-2) (fun σ h => ?_) (fun τ h => ?_)
      · (try dsimp only)
        rw [if_pos (T1 h.l)]
        rw [x1 _ F σ]
        (try dsimp only)
        rw [gP_T (T1 h.l), Option.bind_some, P1_4 h.l, gI_T (T5 h.l), Option.bind_some, h.2.1.2.2.2.1, h10, if_pos pv_10]
      · (try dsimp only)
        rw [if_pos (T85 h.l)]
        dsimp only [jn]
        rw [x2, gN h.l, Option.bind_some, a151 h.l, Option.bind_some, h.2.1.2.2.2.1, h10, if_pos (show qv 10 < 0 by decide)]
  · refine call_look hG (-1) (fun σ h => ?_) (fun τ h => ?_)
    · (try dsimp only)
      rw [if_pos (T1 h.l)]
      dsimp only [jn]
      rw [if_neg c, m1, bq_some, if_pos rfl]
    · (try dsimp only)
      rw [if_pos (T85 h.l), m2, bq_some]
      dsimp only [jn]
      rw [if_pos rfl, if_neg c]
end MOSTC
