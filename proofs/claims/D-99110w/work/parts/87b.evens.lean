/-! THE SEARCH FOR IT -/
seal runE
section EVENS
variable {B F : Nat} {G : GG}
theorem runE_0 {w : Nat → Nat → Nat} {n : Nat} {s : ES} {lo : Nat} : runE w n s lo 0 = s := runE.eq_1 _ _ _ _
theorem runE_1 {w : Nat → Nat → Nat} {n : Nat} {s : ES} {lo : Nat} : runE w n s lo 1 = upE w n s lo := by rw [runE.eq_2, runE.eq_1]; rfl
def rEs (x y : Nat) : Prop := x = 67 ∨ x = 68 ∨ (x = 1 ∧ y = 15)
theorem rEs_rSC (x y : Nat) (h : rEs x y) : rSC x y := by
  unfold rEs at h
  unfold rSC
  omega
/-- the best, in memory -/
def hasB5 (σ : MM) (n : Nat) (gt : Nat → Nat) (s : ES) : Prop := mI σ 1 15 = tN 268435456 s.1 ∧ (s.1 ≠ 0 → ∀ i, i < n → mI σ 68 i = nI (gt (dgt n s.2 i)))
theorem cst_le {w : Nat → Nat → Nat} {n c : Nat} (hw : ∀ a b, w a b ≤ 18) : ∀ k, cstS w n c k ≤ 18 * k
  | 0 => Nat.le_refl 0
  | k + 1 => by
    have ih := cst_le (n := n) (c := c) hw k
    have := hw k (dgt n c k)
    show cstS w n c k + w k (dgt n c k) ≤ 18 * (k + 1)
    omega
theorem upE_le {w : Nat → Nat → Nat} {n c : Nat} {s : ES} (hw : ∀ a b, w a b ≤ 18) (hn : n ≤ 6) (hs : s.1 ≤ 200) : (upE w n s c).1 ≤ 200 := by
  have := cst_le (n := n) (c := c) hw n
  unfold upE
  split
  · show cstS w n c n + 1 ≤ 200
    omega
  · exact hs
theorem runE_le {w : Nat → Nat → Nat} {n lo : Nat} {s : ES} (hw : ∀ a b, w a b ≤ 18) (hn : n ≤ 6) (hs : s.1 ≤ 200) : ∀ len, (runE w n s lo len).1 ≤ 200
  | 0 => by rw [runE_0]; exact hs
  | len + 1 => by rw [runE.eq_2]; exact upE_le hw hn (runE_le hw hn hs len)
/-- dear ones are passed over -/
theorem upE_dear {w : Nat → Nat → Nat} {n p c k : Nat} {s : ES} (hk : k ≤ n) (h1 : p * n ^ (n - k) ≤ c) (h2 : c < (p + 1) * n ^ (n - k)) (hs : s.1 ≠ 0) (hd : s.1 - 1 ≤ cstS w n (p * n ^ (n - k)) k) : upE w n s c = s := by
  unfold upE
  rw [if_neg]
  rintro ⟨-, q | q⟩
  · exact hs q
  · have pos : 0 < n ^ (n - k) := by
      by_cases c0 : n = 0
      · rw [c0, show 0 - k = 0 by omega]; decide
      · exact Nat.pow_pos (by omega)
    have e := cst_pre (w := w) hk h1 h2 (Nat.le_refl _) (Nat.mul_lt_mul_of_pos_right (Nat.lt_succ_self p) pos) k (Nat.le_refl k)
    have m := cst_mono (w := w) (n := n) (c := c) (k := k) (n - k)
    rw [show k + (n - k) = n by omega] at m
    omega
/-- those that use one twice, too -/
theorem upE_twice {w : Nat → Nat → Nat} {n c i j : Nat} {s : ES} (hi : i < n) (hj : j < i) (h : dgt n c i = dgt n c j) : upE w n s c = s := by
  unfold upE
  rw [if_neg]
  rintro ⟨q, -⟩
  exact (permB_iff.mp q) i hi j hj h
theorem evens_C {n : Nat} {ow gt : Nat → Nat} (hn : n ≤ 6) (hF : 100000 ≤ F) (hx : ∀ p, p < 10 → G.xs p < 10 ∧ G.ys p < 10) (how : ∀ i, i < n → ow i < 10) (hgt : ∀ i, i < n → gt i < 10) (w : Nat → Nat → Nat) (hw : ∀ a, a < n → ∀ b, b < n → w a b = wayS G.xs G.ys (ow a) (gt b)) (hw18 : ∀ a b, w a b ≤ 18) : ∀ (r k p u f : Nat) (σ : MM) (s : ES), r + k = n → r < f → s.1 ≤ 200 → CI B σ G → (∀ i, i < n → mI σ 80 i = nI (ow i)) → (∀ i, i < n → mI σ 81 i = nI (gt i)) → usedP n p k u → (∀ i, i < k → ∀ j, j < i → p / n ^ (k - 1 - i) % n ≠ p / n ^ (k - 1 - j) % n) → (∀ i, i < k → mI σ 67 i = nI (gt (p / n ^ (k - 1 - i) % n))) → hasB5 σ n gt s → ∃ σ', r_X0_evens F f σ 1 (nI k) (nI n) (nI u) (nI (cstS w n (p * n ^ (n - k)) k)) = some σ' ∧ kj rEs σ σ' ∧ (∀ i, i < k → mI σ' 67 i = mI σ 67 i) ∧ hasB5 σ' n gt (runE w n s (p * n ^ (n - k)) (n ^ (n - k))) := by
  intro r
  induction r with
  | zero =>
    intro k p u f σ s hr hf hs h ho hg hu hd hrow hb
    obtain ⟨f, rfl⟩ : ∃ g, f = g + 1 := ⟨f - 1, by omega⟩
    have hk : k = n := by omega
    subst hk
    have l := h.l
    obtain ⟨b1, b2⟩ := hb
    have hc := cst_le (n := k) (c := p * k ^ (k - k)) hw18 k
    have e1 : p * k ^ (k - k) = p := by rw [Nat.sub_self, Nat.pow_zero, Nat.mul_one]
    have e2 : k ^ (k - k) = 1 := by rw [Nat.sub_self, Nat.pow_zero]
    show ∃ σ', s_X0_evens F (r_X0_evens F f) σ 1 (nI k) (nI k) (nI u) (nI (cstS w k (p * k ^ (k - k)) k)) = some σ' ∧ _
    unfold s_X0_evens
    rw [if_pos (T1 l), gI_T (T1 l), Option.bind_some, b1]
    rw [e2, Nat.mul_one, runE_1]
    rw [e1] at hc
    have perm : permB k p = true := permB_iff.mpr hd
    by_cases c : s.1 = 0 ∨ cstS w k p k < s.1 - 1
    · have lt : nI (cstS w k p k) < tN 268435456 s.1 := by
        unfold tN
        by_cases c0 : s.1 = 0
        · rw [if_pos c0]; exact nI_lt (by omega) (by decide)
        · rw [if_neg c0]; exact nI_lt (c.resolve_left c0) (by omega)
      have up : upE w k s p = (cstS w k p k + 1, p) := by unfold upE; rw [if_pos ⟨perm, c⟩]
      rw [if_pos lt, if_pos rfl, pI_T (T1 l), Option.bind_some, up]
      obtain ⟨t, ⟨k1, r1⟩, e3⟩ := yl1 (l_X0_evens_24 (r_X0_evens F f) (fun (σ21 : MM) => some σ21) F 1 (nI k)) (fun (σ21 : MM) => some σ21) (fun i t => kj (fun x _ => x = 68) (wI σ 1 15 (nI (cstS w k p k))) t ∧ ∀ j, j < i → mI t 68 j = mI σ 67 j) k (by
        intro g i t hi ⟨k1, r1⟩
        have lt := k1.ly l
        refine ⟨wI t 68 i (mI σ 67 i), ⟨k1.trans (kj.w rfl), fun j hj => ?_⟩, ?_⟩
        · by_cases cj : j = i
          · subst cj; exact mI_ws
          · rw [mI_wy cj]; exact r1 j (by omega)
        · rw [l_X0_evens_24.eq_2, if_pos (nI_lt hi (by omega)), j68 lt, Option.bind_some, j67 lt, Option.bind_some, jG lt (Or.inl rfl) (by omega), Option.bind_some, k1.2 67 i (by omega), mI_wn (by decide), jS lt (Or.inr rfl) (by omega), Option.bind_some, nI_1]) (by
        intro g t _
        rw [l_X0_evens_24.eq_2, if_neg (nI_nlt (Nat.le_refl _) (by omega))]) (f := F) (by omega) ⟨kj.refl, fun j hj => absurd hj (Nat.not_lt_zero j)⟩
      refine ⟨t, e3, (kj.w (Or.inr (Or.inr ⟨rfl, rfl⟩))).trans (k1.mono (fun x y q => Or.inr (Or.inl q))), fun i hi => ?_, ?_, fun _ i hi => ?_⟩
      · rw [k1.2 67 i (by omega), mI_wn (by decide)]
      · rw [k1.2 1 15 (by omega), mI_ws]
        rfl
      · rw [r1 i hi]
        exact hrow i hi
    · have nlt : ¬ nI (cstS w k p k) < tN 268435456 s.1 := by
        have c0 : s.1 ≠ 0 := fun q => c (Or.inl q)
        unfold tN
        rw [if_neg c0]
        exact nI_nlt (Nat.le_of_not_lt (fun q => c (Or.inr q))) (by omega)
      have up : upE w k s p = s := by unfold upE; rw [if_neg (fun q => c q.2)]
      rw [if_neg nlt, up]
      exact ⟨σ, rfl, kj.refl, fun _ _ => rfl, b1, b2⟩
  | succ r ih =>
    intro k p u f σ s hr hf hs h ho hg hu hd hrow hb
    obtain ⟨f, rfl⟩ : ∃ g, f = g + 1 := ⟨f - 1, by omega⟩
    have hk : k < n := by omega
    have l := h.l
    obtain ⟨b1, b2⟩ := hb
    have hc := cst_le (n := n) (c := p * n ^ (n - k)) hw18 k
    have pos : 0 < n ^ (n - k) := Nat.pow_pos (by omega)
    have pos1 : 0 < n ^ (n - (k + 1)) := Nat.pow_pos (by omega)
    have pw : n ^ (n - k) = n * n ^ (n - (k + 1)) := by
      rw [show n - k = (n - (k + 1)) + 1 by omega, Nat.pow_succ, Nat.mul_comm]
    have u64 : u < 64 := Nat.lt_of_lt_of_le hu.1 (Nat.pow_le_pow_right (by decide) hn : 2 ^ n ≤ 2 ^ 6)
    show ∃ σ', s_X0_evens F (r_X0_evens F f) σ 1 (nI k) (nI n) (nI u) (nI (cstS w n (p * n ^ (n - k)) k)) = some σ' ∧ _
    unfold s_X0_evens
    rw [if_pos (T1 l), gI_T (T1 l), Option.bind_some, b1]
    by_cases c : s.1 = 0 ∨ cstS w n (p * n ^ (n - k)) k < s.1 - 1
    · have lt : nI (cstS w n (p * n ^ (n - k)) k) < tN 268435456 s.1 := by
        unfold tN
        by_cases c0 : s.1 = 0
        · rw [if_pos c0]; exact nI_lt (by omega) (by decide)
        · rw [if_neg c0]; exact nI_lt (c.resolve_left c0) (by omega)
      rw [if_pos lt, if_neg (fun q => by have := (nI_eq (by omega) (by omega)).mp q; omega)]
      obtain ⟨t, ⟨k1, r1, x1⟩, e3⟩ := yl1 (l_X0_evens_54 (r_X0_evens F f) (fun (σ15 : MM) => some σ15) F 1 (nI k) (nI n) (nI u) (nI (cstS w n (p * n ^ (n - k)) k))) (fun (σ15 : MM) => some σ15) (fun m t => kj rEs σ t ∧ (∀ i, i < k → mI t 67 i = mI σ 67 i) ∧ hasB5 t n gt (runE w n s (p * n ^ (n - k)) (m * n ^ (n - (k + 1))))) n (by
        intro g m t hm ⟨k1, r1, x1⟩
        have ht := h.s k1 rEs_rSC
        have lt := ht.l
        have ho1 : ∀ i, i < n → mI t 80 i = nI (ow i) := fun i hi => by rw [k1.2 80 i (by unfold rEs; omega)]; exact ho i hi
        have hg1 : ∀ i, i < n → mI t 81 i = nI (gt i) := fun i hi => by rw [k1.2 81 i (by unfold rEs; omega)]; exact hg i hi
        have m6 : m < 6 := by omega
        have k6 : k < 6 := by omega
        have start : (p * n + m) * n ^ (n - (k + 1)) = p * n ^ (n - k) + m * n ^ (n - (k + 1)) := by rw [Nat.add_mul, Nat.mul_assoc, ← pw]
        have next : (p * n + m + 1) * n ^ (n - (k + 1)) = (p * n + m) * n ^ (n - (k + 1)) + n ^ (n - (k + 1)) := by rw [Nat.add_mul, Nat.one_mul]
        have app : runE w n s (p * n ^ (n - k)) ((m + 1) * n ^ (n - (k + 1))) = runE w n (runE w n s (p * n ^ (n - k)) (m * n ^ (n - (k + 1)))) ((p * n + m) * n ^ (n - (k + 1))) (n ^ (n - (k + 1))) := by
          rw [Nat.add_mul, Nat.one_mul, runE_app, start]
        have hs1 := runE_le (w := w) (n := n) (lo := p * n ^ (n - k)) hw18 hn hs (m * n ^ (n - (k + 1)))
        obtain ⟨s1, hs1e⟩ : ∃ s1, runE w n s (p * n ^ (n - k)) (m * n ^ (n - (k + 1))) = s1 := ⟨_, rfl⟩
        rw [hs1e] at app x1 hs1
        rw [l_X0_evens_54.eq_2, if_pos (nI_lt hm (by omega)), e_has (by omega) (by omega), bq_some]
        by_cases cu : u.testBit m = true
        · -- used already
          obtain ⟨i, hi, ei⟩ := (hu.2 m hm).mp cu
          have idn : runE w n s1 ((p * n + m) * n ^ (n - (k + 1))) (n ^ (n - (k + 1))) = s1 := runE_id _ (fun cc q1 q2 => by
            rw [← next] at q2
            refine upE_twice (i := k) (j := i) hk hi ?_
            rw [dgt_pre (p := p * n + m) (k := k + 1) (by omega) (by omega) q1 q2, dgt_pre (p := p * n + m) (k := k + 1) (by omega) (by omega) q1 q2, pre_last hm, pre_old hm hi, ei])
          rw [if_pos cu, if_neg (by decide), nI_1 m]
          exact ⟨t, ⟨k1, r1, by rw [app, idn]; exact x1⟩, rfl⟩
        · have k2 : kj rEs σ (wI t 67 k (nI (gt m))) := k1.trans (kj.w (Or.inl rfl))
          have h2 := h.s k2 rEs_rSC
          have l2 := h2.l
          have q80 : mI (wI t 67 k (nI (gt m))) 80 k = nI (ow k) := by rw [mI_wn (by decide)]; exact ho1 k hk
          have q81 : mI (wI t 67 k (nI (gt m))) 81 m = nI (gt m) := by rw [mI_wn (by decide)]; exact hg1 m hm
          have lo1 : p * n ^ (n - k) ≤ (p * n + m) * n ^ (n - (k + 1)) := by rw [start]; exact Nat.le_add_right _ _
          have hi1 : (p * n + m) * n ^ (n - (k + 1)) < (p + 1) * n ^ (n - k) := by
            rw [start, Nat.add_mul, Nat.one_mul]
            have : m * n ^ (n - (k + 1)) < n ^ (n - k) := by rw [pw]; exact Nat.mul_lt_mul_of_pos_right hm pos1
            omega
          have ecst : cstS w n ((p * n + m) * n ^ (n - (k + 1))) (k + 1) = cstS w n (p * n ^ (n - k)) k + w k m := by
            show cstS w n ((p * n + m) * n ^ (n - (k + 1))) k + w k (dgt n ((p * n + m) * n ^ (n - (k + 1))) k) = _
            rw [cst_pre (w := w) (Nat.le_of_lt hk) lo1 hi1 (Nat.le_refl _) (Nat.mul_lt_mul_of_pos_right (Nat.lt_succ_self p) pos) k (Nat.le_refl k), dgt_pre (p := p * n + m) (k := k + 1) (by omega) (by omega) (Nat.le_refl _) (by rw [next]; omega), pre_last hm]
          obtain ⟨t4, e4, k4, r4, x4⟩ := ih (k + 1) (p * n + m) (u ||| 2 ^ m) f (wI t 67 k (nI (gt m))) s1 (by omega) (by omega) hs1 h2 (fun i hi => by rw [mI_wn (by decide)]; exact ho1 i hi) (fun i hi => by rw [mI_wn (by decide)]; exact hg1 i hi) (used_next hm hu) (fun i hi j hj => by
            by_cases ci : i = k
            · subst ci
              rw [pre_last hm, pre_old hm hj]
              intro q
              exact cu ((hu.2 m hm).mpr ⟨j, hj, q.symm⟩)
            · rw [pre_old hm (by omega), pre_old hm (by omega)]
              exact hd i (by omega) j hj) (fun i hi => by
            by_cases ci : i = k
            · subst ci; rw [mI_ws, pre_last hm]
            · rw [mI_wy ci, pre_old hm (by omega), r1 i (by omega)]
              exact hrow i (by omega)) ⟨by rw [mI_wn (by decide)]; exact x1.1, fun q i hi => by rw [mI_wn (by decide)]; exact x1.2 q i hi⟩
          rw [ecst] at e4
          have k5 := k2.trans k4
          rw [if_neg cu, if_pos rfl, j67 lt, Option.bind_some, gP_T (T1 lt), Option.bind_some, P1_18 lt, aI_T (by rw [T81 lt]) (by rw [T81 lt]; exact m6) (by rw [T81 lt]; decide), Option.bind_some, hg1 m hm, jS lt (Or.inl rfl) (by omega), Option.bind_some, gP_T (T1 l2), Option.bind_some, P1_17 l2, aI_T (by rw [T80 l2]) (by rw [T80 l2]; exact k6) (by rw [T80 l2]; decide), Option.bind_some, q80, gP_T (T1 l2), Option.bind_some, P1_18 l2, aI_T (by rw [T81 l2]) (by rw [T81 l2]; exact m6) (by rw [T81 l2]; decide), Option.bind_some, q81, e_way l2 h2.1.2.2 (how k hk) (hgt m hm), bq_some, ← hw k hk m hm, nI_1 k, bx_one (by omega), bx_or, nI_add, e4, Option.bind_some, nI_1 m]
          refine ⟨t4, ⟨k5, fun i hi => ?_, by rw [app]; exact x4⟩, rfl⟩
          rw [r4 i (by omega), mI_wy (by omega)]
          exact r1 i hi) (by
        intro g t _
        rw [l_X0_evens_54.eq_2, if_neg (nI_nlt (Nat.le_refl _) (by omega))]) (f := F) (by omega) ⟨kj.refl, fun _ _ => rfl, by rw [Nat.zero_mul, runE_0]; exact ⟨b1, b2⟩⟩
      rw [← pw] at x1
      exact ⟨t, e3, k1, r1, x1⟩
    · have c0 : s.1 ≠ 0 := fun q => c (Or.inl q)
      have cd : s.1 - 1 ≤ cstS w n (p * n ^ (n - k)) k := Nat.le_of_not_lt (fun q => c (Or.inr q))
      have nlt : ¬ nI (cstS w n (p * n ^ (n - k)) k) < tN 268435456 s.1 := by
        unfold tN
        rw [if_neg c0]
        exact nI_nlt cd (by omega)
      have idn : runE w n s (p * n ^ (n - k)) (n ^ (n - k)) = s := runE_id _ (fun cc q1 q2 => upE_dear (Nat.le_of_lt hk) q1 (by rw [Nat.add_mul, Nat.one_mul]; exact q2) c0 cd)
      rw [if_neg nlt, idn]
      exact ⟨σ, rfl, kj.refl, fun _ _ => rfl, b1, b2⟩
end EVENS
