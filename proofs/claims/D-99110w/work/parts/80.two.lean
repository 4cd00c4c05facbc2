seal coA coB
/-! TWO COINS -/
noncomputable def rowb (d : Nat → Nat → Nat) (p : Nat) : Bool := (Classical.propDecidable (rowB d p)).decide
theorem rowb_iff {d : Nat → Nat → Nat} {p : Nat} : rowb d p = true ↔ rowB d p := @decide_eq_true_iff _ (Classical.propDecidable (rowB d p))
theorem rowb_eq {d : Nat → Nat → Nat} {p : Nat} {z : Bool} (h : z = true ↔ rowB d p) : z = rowb d p := by
  cases z with
  | true => exact (rowb_iff.mpr (h.mp rfl)).symm
  | false =>
    cases e : rowb d p with
    | false => rfl
    | true => exact absurd (h.mpr (rowb_iff.mp e)) (by decide)
def incD (d : Nat → Nat → Nat) (a b : Nat) : Nat → Nat → Nat := fun x y => if x = a ∧ y = b then d x y + 1 else d x y
/-- the debts of a set of coins; their hours -/
def dSet (C : CO) (s : Nat) : Nat → Nat → Nat → Nat
  | 0 => fun _ _ => 0
  | k + 1 => if s.testBit k = true then incD (dSet C s k) (C.2.1 k) (C.2.2 k) else dSet C s k
def hSet (xs ys : Nat → Nat) (C : CO) (s : Nat) : Nat → Nat
  | 0 => 0
  | k + 1 => hSet xs ys C s k + (if s.testBit k = true then wayS xs ys (C.2.1 k) (C.2.2 k) else 0)
theorem dSet_le {C : CO} {s : Nat} : ∀ k a b, dSet C s k a b ≤ k
  | 0, _, _ => Nat.le_refl 0
  | k + 1, a, b => by
    have ih := dSet_le (C := C) (s := s) k a b
    show (if s.testBit k = true then incD (dSet C s k) (C.2.1 k) (C.2.2 k) else dSet C s k) a b ≤ k + 1
    by_cases c : s.testBit k = true
    · rw [if_pos c]
      unfold incD
      split <;> omega
    · rw [if_neg c]; omega
theorem hSet_le {xs ys : Nat → Nat} {C : CO} {s : Nat} (hx : ∀ p, p < 10 → xs p < 10 ∧ ys p < 10) (hw : coW C) : ∀ k, k ≤ C.1 → hSet xs ys C s k ≤ 18 * k
  | 0, _ => Nat.le_refl 0
  | k + 1, h => by
    have ih := hSet_le (s := s) hx hw k (by omega)
    have w := hw k (by omega)
    have := (wayS_b hx w.1 w.2.1).2
    show hSet xs ys C s k + (if s.testBit k = true then wayS xs ys (C.2.1 k) (C.2.2 k) else 0) ≤ 18 * (k + 1)
    split <;> omega
def longS2 (xs ys : Nat → Nat) (C : CO) (all s : Nat) : Nat := max (hSet xs ys C s C.1) (hSet xs ys C (less all s) C.1)
noncomputable def twoS (xs ys : Nat → Nat) (C : CO) (all h p : Nat) : Nat → Nat
  | 0 => 0
  | s + 1 => if rowb (dSet C s C.1) h = true ∧ rowb (dSet C (less all s) C.1) p = true ∧ (twoS xs ys C all h p s = 0 ∨ longS2 xs ys C all s < twoS xs ys C all h p s - 1) then longS2 xs ys C all s + 1 else twoS xs ys C all h p s
def tN (N b : Nat) : Int32 := if b = 0 then nI N else nI (b - 1)
section TWO
variable {B F : Nat} {G : GG}
theorem e_X4_clear {σ : MM} {Q : Nat} (hB : isB σ Q) (hF : 10 < F) : ∃ σ', g_X4_clear F σ Q = some (Q, σ') ∧ kp (fun x => Q + 2 ≤ x ∧ x < Q + 12) σ σ' ∧ hasD σ' Q (fun _ _ => 0) := by
  unfold g_X4_clear
  rw [if_pos hB.1]
  obtain ⟨σ', ⟨hk, hD⟩, he⟩ := yl1 (l_X4_clear_2 (fun (σ6 : MM) => some (Q, σ6)) F Q) (fun σ => some (Q, σ)) (fun i s => kp (fun x => Q + 2 ≤ x ∧ x < Q + 12) σ s ∧ ∀ a, a < i → ∀ b, b < 10 → mI s (Q + 2 + a) b = 0) 10 (by
    intro f i s2 hi ⟨hk, hD⟩
    rw [l_X4_clear_2.eq_2, if_pos (ten_in hi)]
    obtain ⟨s', ⟨hk', hD1, hD2⟩, he⟩ := yl1 (l_X4_clear_10 (fun (σ7 : MM) => l_X4_clear_2 (fun (σ8 : MM) => some (Q, σ8)) F Q f ((nI i + 1)) σ7) F Q (nI i)) (fun s => l_X4_clear_2 (fun (σ8 : MM) => some (Q, σ8)) F Q f ((nI i + 1)) s) (fun k s => kp (fun x => Q + 2 ≤ x ∧ x < Q + 12) σ s ∧ (∀ a, a < i → ∀ b, b < 10 → mI s (Q + 2 + a) b = 0) ∧ ∀ b, b < k → mI s (Q + 2 + i) b = 0) 10 (by
      intro g k s3 hk9 ⟨hkk, hD1, hD2⟩
      obtain ⟨t1, p1, t2, hr⟩ := hkk.iB hB
      refine ⟨wI s3 (Q + 2 + i) k 0, ⟨hkk.trans (kp.w ⟨by omega, by omega⟩), fun a ha b hb => ?_, fun b hb => ?_⟩, ?_⟩
      · rw [mI_wn (by omega)]
        exact hD1 a ha b hb
      · by_cases h : b = k
        · subst h; exact mI_ws
        · rw [mI_wy h]
          exact hD2 b (by omega)
      · rw [l_X4_clear_10.eq_2, if_pos (ten_in hk9), gP_T t1, Option.bind_some, p1, aP_T (by rw [t2]) (by rw [t2]; exact hi) (by rw [t2]; decide), Option.bind_some, (hr i hi).1, sI_T (by rw [(hr i hi).2]) (by rw [(hr i hi).2]; exact hk9) (by rw [(hr i hi).2]; decide), Option.bind_some, nI_1 k]) (by
      intro g s3 _
      rw [l_X4_clear_10.eq_2, if_neg ten_no]) hF ⟨hk, hD, fun b hb => absurd hb (by omega)⟩
    refine ⟨s', ⟨hk', fun a ha b hb => ?_⟩, ?_⟩
    · by_cases h : a = i
      · subst h; exact hD2 b hb
      · exact hD1 a (by omega) b hb
    · rw [← nI_1]
      exact he) (by
    intro f s2 _
    rw [l_X4_clear_2.eq_2, if_neg ten_no]) hF ⟨kp.refl, fun a ha => absurd ha (by omega)⟩
  exact ⟨σ', he, hk, hD⟩
theorem e_X0_hoursOf {σ : MM} {C : CO} {s p : Nat} (h : CI B σ G) (hC : hasC σ C) (hw : coW C) (hn : C.1 ≤ 8) (hs : s < 2147483648) (hp : p < 10) (hx : ∀ p, p < 10 → G.xs p < 10 ∧ G.ys p < 10) (hF : 100000 ≤ F) : ∃ σ', g_X0_hoursOf F σ 1 (nI s) (nI C.1) (nI p) = some (if rowb (dSet C s C.1) p = true then nI (hSet G.xs G.ys C s C.1) else 268435456, σ') ∧ kj rWo σ σ' := by
  have l := h.l
  unfold g_X0_hoursOf
  obtain ⟨s0, e0, k0, d0⟩ := e_X4_clear (F := F) (lay_isB55 l) (by omega)
  have k0j := k0.j (R := rWo) (fun x y q => by have q : 55 + 2 ≤ x ∧ x < 55 + 12 := q; unfold rWo; omega)
  rw [if_pos (T1 l), kO l, Option.bind_some, e0, bq_some]
  obtain ⟨v, s9, ⟨k9, d9, v9⟩, e9⟩ := yl2 (fun f v i σ => l_X0_hoursOf_14 (fun (r4_22 : Int32) (σ21 : MM) => (gP σ21 1 0 22 12).bind fun p23 => bq (g_X4_areOneRow F σ21 p23 (nI p)) fun v25 σ24 => if v25 = 0 then (some (268435456, σ24)) else (some (r4_22, σ24))) F 1 (nI s) (nI C.1) (nI p) f v i σ) (fun r4_22 σ21 => (gP σ21 1 0 22 12).bind fun p23 => bq (g_X4_areOneRow F σ21 p23 (nI p)) fun v25 σ24 => if v25 = 0 then (some (268435456, σ24)) else (some (r4_22, σ24))) (fun i v s' => kj rWo σ s' ∧ hasD s' 55 (dSet C s i) ∧ v = nI (hSet G.xs G.ys C s i)) C.1 (by
    intro f i v s' hi ⟨k1, d1, v1⟩
    subst v1
    have hs' := h.s k1 (fun x y q => rWk_rSC x y (rWo_rWk x y q))
    have ls := hs'.l
    obtain ⟨b1, b2, b3⟩ := hw i hi
    have i12 : i < 12 := by omega
    obtain ⟨c1, c2⟩ := hC i hi
    have gg : ∀ {t : MM}, kj rWo σ t → aI t 82 20 (nI i) = some (nI (C.2.1 i)) ∧ aI t 83 20 (nI i) = some (nI (C.2.2 i)) := fun kt => by
      have lt := kt.ly l
      constructor
      · rw [aI_T (by rw [T82 lt]) (by rw [T82 lt]; exact i12) (by rw [T82 lt]; decide), kt.2 82 i (by unfold rWo; omega), c1]
      · rw [aI_T (by rw [T83 lt]) (by rw [T83 lt]; exact i12) (by rw [T83 lt]; decide), kt.2 83 i (by unfold rWo; omega), c2]
    have dT : s.testBit i = true → dSet C s (i + 1) = incD (dSet C s i) (C.2.1 i) (C.2.2 i) := fun q => if_pos q
    have dF : ¬ s.testBit i = true → dSet C s (i + 1) = dSet C s i := fun q => if_neg q
    have hh : hSet G.xs G.ys C s (i + 1) = hSet G.xs G.ys C s i + (if s.testBit i = true then wayS G.xs G.ys (C.2.1 i) (C.2.2 i) else 0) := rfl
    (try dsimp only)
    rw [l_X0_hoursOf_14.eq_2, if_pos (nI_lt hi (by omega)), e_has (by omega) (by omega), bq_some]
    by_cases c : s.testBit i = true
    · have k2 : kj rWo σ (wI s' (57 + C.2.1 i) (C.2.2 i) (nI (dSet C s i (C.2.1 i) (C.2.2 i) + 1))) := k1.trans (kj.w ⟨by omega, by omega⟩)
      have l2 := k2.ly l
      have h2 := h.s k2 (fun x y q => rWk_rSC x y (rWo_rWk x y q))
      have dv : mI s' (57 + C.2.1 i) (C.2.2 i) = nI (dSet C s i (C.2.1 i) (C.2.2 i)) := d1 _ b1 _ b2
      rw [if_pos c, if_neg (by decide), kO ls, Option.bind_some, kO2 ls, Option.bind_some, gP_T (T1 ls), Option.bind_some, P1_19 ls, (gg k1).1, Option.bind_some, kR ls b1, Option.bind_some, gP_T (T1 ls), Option.bind_some, P1_20 ls, (gg k1).2, Option.bind_some, kG ls b1 b2, Option.bind_some, dv, nI_1, kS ls b1 b2, Option.bind_some, gP_T (T1 l2), Option.bind_some, P1_19 l2, (gg k2).1, Option.bind_some, gP_T (T1 l2), Option.bind_some, P1_20 l2, (gg k2).2, Option.bind_some, e_way l2 h2.1.2.2 b1 b2, bq_some, nI_add, nI_1]
      refine ⟨_, _, ⟨k2, ?_, ?_⟩, rfl⟩
      · rw [dT c]
        intro x hx y hy
        unfold incD
        by_cases q : x = C.2.1 i ∧ y = C.2.2 i
        · rw [if_pos q, q.1, q.2]
          show mI _ (57 + C.2.1 i) (C.2.2 i) = _
          rw [mI_ws]
        · rw [if_neg q, mI_wI, if_neg (by omega)]
          exact d1 x hx y hy
      · rw [hh, if_pos c]
    · rw [if_neg c, if_pos rfl, nI_1]
      refine ⟨_, s', ⟨k1, by rw [dF c]; exact d1, ?_⟩, rfl⟩
      rw [hh, if_neg c]; rfl) (by
    intro f v s' _
    (try dsimp only)
    rw [l_X0_hoursOf_14.eq_2, if_neg (nI_nlt (Nat.le_refl _) (by omega))]) (f := F) (v := 0) (by omega) ⟨k0j, d0, rfl⟩
  (try dsimp only at e9)
  rw [e9]
  have l9 := k9.ly l
  have b9 : b99 (dSet C s C.1) := fun a _ b _ => Nat.le_trans (dSet_le C.1 a b) (by omega)
  obtain ⟨z, e, hz⟩ := e_X4_areOneRow (F := F) (lay_isB55 l9) d9 b9 hp (by omega)
  rw [kO l9, Option.bind_some, e, bq_some, rowb_eq hz, v9]
  refine ⟨s9, ?_, k9⟩
  by_cases c : rowb (dSet C s C.1) p = true
  · rw [if_pos c, if_pos c, if_neg (by decide)]
  · rw [if_neg c, if_neg c, if_pos rfl]
theorem twoS_le {C : CO} {hd p : Nat} (hx : ∀ p, p < 10 → G.xs p < 10 ∧ G.ys p < 10) (hw : coW C) (hn : C.1 ≤ 8) (j : Nat) : twoS G.xs G.ys C (2 ^ C.1 - 1) hd p j ≤ 200 := by
  induction j with
  | zero => exact Nat.zero_le _
  | succ j ih =>
    have w1 := hSet_le (s := j) hx hw C.1 (Nat.le_refl _)
    have w2 := hSet_le (s := less (2 ^ C.1 - 1) j) hx hw C.1 (Nat.le_refl _)
    have bl : longS2 G.xs G.ys C (2 ^ C.1 - 1) j ≤ 144 := Nat.max_le.mpr ⟨by omega, by omega⟩
    unfold twoS
    split
    · omega
    · exact ih
theorem two_C {σ : MM} {C : CO} {p hd : Nat} (h : CI B σ G) (hC : hasC σ C) (hw : coW C) (hn : C.1 ≤ 8) (hp : p < 10) (hq : G.S.2.2.2 0 = hd) (hq2 : hd < 10) (hx : ∀ p, p < 10 → G.xs p < 10 ∧ G.ys p < 10) (hF : 100000 ≤ F) (K : Int32 → MM → Option (Int32 × MM)) : ∃ σ', l_X0_two_60 K F 1 (nI p) (nI C.1) (nI (2 ^ C.1 - 1)) F 268435456 0 σ = K (tN 268435456 (twoS G.xs G.ys C (2 ^ C.1 - 1) hd p (2 ^ C.1))) σ' ∧ kj rWo σ σ' := by
  have p2 : 2 ^ C.1 ≤ 256 := (Nat.pow_le_pow_right (by decide) hn : 2 ^ _ ≤ 2 ^ 8)
  have p1 : 0 < 2 ^ C.1 := Nat.pow_pos (by decide)
  obtain ⟨v, s, ⟨k1, v1⟩, e1⟩ := yl2 (fun f v i σ => l_X0_two_60 K F 1 (nI p) (nI C.1) (nI (2 ^ C.1 - 1)) f v i σ) K (fun i v s => kj rWo σ s ∧ v = tN 268435456 (twoS G.xs G.ys C (2 ^ C.1 - 1) hd p i)) (2 ^ C.1) (by
    intro f i v s hi ⟨k1, v1⟩
    subst v1
    have hs := h.s k1 (fun x y q => rWk_rSC x y (rWo_rWk x y q))
    have ls := hs.l
    have hC1 : hasC s C := fun j hj => by rw [k1.2 82 j (by unfold rWo; omega), k1.2 83 j (by unfold rWo; omega)]; exact hC j hj
    obtain ⟨s2, e2, k2⟩ := e_X0_hoursOf (F := F) (s := i) hs hC1 hw hn (by omega) hq2 hx hF
    have k12 := k1.trans k2
    have hs2 := h.s k12 (fun x y q => rWk_rSC x y (rWo_rWk x y q))
    have hC2 : hasC s2 C := fun j hj => by rw [k12.2 82 j (by unfold rWo; omega), k12.2 83 j (by unfold rWo; omega)]; exact hC j hj
    have ll : less (2 ^ C.1 - 1) i < 2 ^ C.1 := less_lt (by omega)
    obtain ⟨s3, e3, k3⟩ := e_X0_hoursOf (F := F) (s := less (2 ^ C.1 - 1) i) hs2 hC2 hw hn (by omega) hp hx hF
    have g3 : gI s 5 2 16 3 = some (nI hd) := by rw [gI_T (T5 ls), hs.2.1.2.2.2.1, hq, pv_lt hq2]
    have u1 := hSet_le (s := i) hx hw C.1 (Nat.le_refl _)
    have u2 := hSet_le (s := less (2 ^ C.1 - 1) i) hx hw C.1 (Nat.le_refl _)
    have eT : (rowb (dSet C i C.1) hd = true ∧ rowb (dSet C (less (2 ^ C.1 - 1) i) C.1) p = true ∧ (twoS G.xs G.ys C (2 ^ C.1 - 1) hd p i = 0 ∨ longS2 G.xs G.ys C (2 ^ C.1 - 1) i < twoS G.xs G.ys C (2 ^ C.1 - 1) hd p i - 1)) → twoS G.xs G.ys C (2 ^ C.1 - 1) hd p (i + 1) = longS2 G.xs G.ys C (2 ^ C.1 - 1) i + 1 := fun q => if_pos q
    have eF : ¬ (rowb (dSet C i C.1) hd = true ∧ rowb (dSet C (less (2 ^ C.1 - 1) i) C.1) p = true ∧ (twoS G.xs G.ys C (2 ^ C.1 - 1) hd p i = 0 ∨ longS2 G.xs G.ys C (2 ^ C.1 - 1) i < twoS G.xs G.ys C (2 ^ C.1 - 1) hd p i - 1)) → twoS G.xs G.ys C (2 ^ C.1 - 1) hd p (i + 1) = twoS G.xs G.ys C (2 ^ C.1 - 1) hd p i := fun q => if_neg q
    have bd := fun j => twoS_le (G := G) (C := C) (hd := hd) (p := p) hx hw hn j
    have bi := bd i
    (try dsimp only)
    rw [l_X0_two_60.eq_2, if_neg (nI_nlt (by omega) (by omega)), gP_T (T1 ls), Option.bind_some, P1_4 ls, g3, Option.bind_some, e2, bq_some, bx_less, e3, bq_some, nI_1]
    refine ⟨_, s3, ⟨k12.trans k3, ?_⟩, rfl⟩
    have fin : ∀ m, m ≤ 268435456 → (268435456 : Int32) = nI 268435456 := fun _ _ => rfl
    by_cases c1 : rowb (dSet C i C.1) hd = true
    · by_cases c2 : rowb (dSet C (less (2 ^ C.1 - 1) i) C.1) p = true
      · rw [if_pos c1, if_pos c2, jmax_nI (by omega) (by omega)]
        have el : max (hSet G.xs G.ys C i C.1) (hSet G.xs G.ys C (less (2 ^ C.1 - 1) i) C.1) = longS2 G.xs G.ys C (2 ^ C.1 - 1) i := rfl
        have bl : longS2 G.xs G.ys C (2 ^ C.1 - 1) i ≤ 144 := by unfold longS2; omega
        rw [el]
        by_cases c3 : twoS G.xs G.ys C (2 ^ C.1 - 1) hd p i = 0
        · rw [eT ⟨c1, c2, Or.inl c3⟩, c3]
          show jmin (nI 268435456) _ = nI (longS2 G.xs G.ys C (2 ^ C.1 - 1) i)
          rw [jmin_nI (by decide) (by omega), Nat.min_eq_right (by omega)]
        · have e5 : tN 268435456 (twoS G.xs G.ys C (2 ^ C.1 - 1) hd p i) = nI (twoS G.xs G.ys C (2 ^ C.1 - 1) hd p i - 1) := if_neg c3
          rw [e5, jmin_nI (by omega) (by omega)]
          by_cases c4 : longS2 G.xs G.ys C (2 ^ C.1 - 1) i < twoS G.xs G.ys C (2 ^ C.1 - 1) hd p i - 1
          · rw [eT ⟨c1, c2, Or.inr c4⟩, Nat.min_eq_right (by omega)]; rfl
          · rw [eF (fun q => q.2.2.elim c3 c4), e5, Nat.min_eq_left (by omega)]
      · rw [if_pos c1, if_neg c2, eF (fun q => c2 q.2.1), show (268435456 : Int32) = nI 268435456 from rfl, jmax_nI (by omega) (by decide), Nat.max_eq_right (by omega)]
        unfold tN
        split
        · rw [jmin_nI (by decide) (by decide), Nat.min_self]
        · rw [jmin_nI (by omega) (by decide), Nat.min_eq_left (by omega)]
    · have : jmax (if rowb (dSet C i C.1) hd = true then nI (hSet G.xs G.ys C i C.1) else 268435456) (if rowb (dSet C (less (2 ^ C.1 - 1) i) C.1) p = true then nI (hSet G.xs G.ys C (less (2 ^ C.1 - 1) i) C.1) else 268435456) = nI 268435456 := by
        rw [if_neg c1, show (268435456 : Int32) = nI 268435456 from rfl]
        split
        · rw [jmax_nI (by decide) (by omega), Nat.max_eq_left (by omega)]
        · rw [jmax_nI (by decide) (by decide), Nat.max_self]
      rw [this, eF (fun q => c1 q.1)]
      unfold tN
      split
      · rw [jmin_nI (by decide) (by decide), Nat.min_self]
      · rw [jmin_nI (by omega) (by decide), Nat.min_eq_left (by omega)]) (by
    intro f v s _
    (try dsimp only)
    rw [l_X0_two_60.eq_2, if_pos (nI_lt (by omega) (by omega))]) (f := F) (v := 268435456) (by omega) ⟨kj.refl, rfl⟩
  refine ⟨s, e1.trans ?_, k1⟩
  rw [v1]
/-! the model's -/
def rLf (x _y : Nat) : Prop := x = 110
theorem rLf_rSM (x y : Nat) (h : rLf x y) : rSM x y := by
  unfold rLf at h
  unfold rSM
  omega
theorem hasM.k {σ σ' : MM} {C : CO} (h : hasM σ C) (k : kj rLf σ σ') : hasM σ' C := ⟨by rw [k.2 85 50 (by unfold rLf; omega)]; exact h.1, fun i hi => by rw [k.2 112 i (by unfold rLf; omega), k.2 113 i (by unfold rLf; omega)]; exact h.2 i hi⟩
theorem e_X6_isRowOf {σ : MM} {C : CO} {s p : Nat} (l : lay σ) (hC : hasM σ C) (hw : coW C) (hn : C.1 ≤ 8) (hs : s < 2147483648) (hp : p < 10) (hF : 100000 ≤ F) : ∃ σ', g_X6_isRowOf F σ 85 (nI s) (nI p) = some (if rowb (dSet C s C.1) p = true then 1 else 0, σ') ∧ kj rLf σ σ' := by
  unfold g_X6_isRowOf
  rw [if_pos (T85 l)]
  obtain ⟨s0, ⟨k0, z0⟩, e0⟩ := yl1 (l_X6_isRowOf_2 (fun (σ3 : MM) => l_X6_isRowOf_23 (fun (σ19 : MM) => bq (g_X6_isRow F σ19 85 (nI p)) fun v21 σ20 => (rz v21).bind fun u => some (u, σ20)) F 85 (nI s) (nI p) F 0 σ3) F 85 (nI s) (nI p)) (fun (σ3 : MM) => l_X6_isRowOf_23 (fun (σ19 : MM) => bq (g_X6_isRow F σ19 85 (nI p)) fun v21 σ20 => (rz v21).bind fun u => some (u, σ20)) F 85 (nI s) (nI p) F 0 σ3) (fun i t => kj rLf σ t ∧ ∀ k, k < i → mI t 110 k = 0) 100 (by
    intro f i t hi ⟨hk, hh⟩
    have lt := hk.ly l
    refine ⟨wI t 110 i 0, ⟨hk.trans (kj.w rfl), fun k hk9 => ?_⟩, ?_⟩
    · by_cases c : k = i
      · subst c; exact mI_ws
      · rw [mI_wy c]; exact hh k (by omega)
    · rw [l_X6_isRowOf_2.eq_2, if_pos (show nI i < 100 from nI_lt (b := 100) hi (by decide)), lO lt, Option.bind_some, lS lt hi, Option.bind_some, nI_1]) (by
    intro f t _
    rw [l_X6_isRowOf_2.eq_2, if_neg (by decide)]) (f := F) (by omega) ⟨kj.refl, fun k hk9 => absurd hk9 (Nat.not_lt_zero k)⟩
  rw [e0]
  (try dsimp only)
  obtain ⟨s9, ⟨k9, d9⟩, e9⟩ := yl1 (l_X6_isRowOf_23 (fun (σ19 : MM) => bq (g_X6_isRow F σ19 85 (nI p)) fun v21 σ20 => (rz v21).bind fun u => some (u, σ20)) F 85 (nI s) (nI p)) (fun (σ19 : MM) => bq (g_X6_isRow F σ19 85 (nI p)) fun v21 σ20 => (rz v21).bind fun u => some (u, σ20)) (fun i t => kj rLf σ t ∧ hasL t 110 (dSet C s i)) C.1 (by
    intro f i t hi ⟨k1, d1⟩
    have lt := k1.ly l
    obtain ⟨b1, b2, b3⟩ := hw i hi
    have i12 : i < 12 := by omega
    have hC1 := hC.k k1
    obtain ⟨c1, c2⟩ := hC1.2 i hi
    have g1 : aI t 112 20 (nI i) = some (nI (C.2.1 i)) := by rw [aI_T (by rw [T112 lt]) (by rw [T112 lt]; exact i12) (by rw [T112 lt]; decide), c1]
    have g2 : aI t 113 20 (nI i) = some (nI (C.2.2 i)) := by rw [aI_T (by rw [T113 lt]) (by rw [T113 lt]; exact i12) (by rw [T113 lt]; decide), c2]
    have p48 : gP t 85 5 62 48 = some 112 := by rw [gP_T (T85 lt), P85_48 lt]
    have p49 : gP t 85 5 62 49 = some 113 := by rw [gP_T (T85 lt), P85_49 lt]
    have dT : s.testBit i = true → dSet C s (i + 1) = incD (dSet C s i) (C.2.1 i) (C.2.2 i) := fun q => if_pos q
    have dF : ¬ s.testBit i = true → dSet C s (i + 1) = dSet C s i := fun q => if_neg q
    rw [l_X6_isRowOf_23.eq_2, gI_T (T85 lt), Option.bind_some, hC1.1, if_pos (nI_lt hi (by omega)), e_hasM (by omega) (by omega), bq_some]
    by_cases c : s.testBit i = true
    · rw [if_pos c, if_neg (by decide)]
      simp only [lO lt, p48, p49, g1, g2, Option.bind_some]
      rw [e_X6_leftOf lt d1 b1 b2, bq_some, nI_1, ten_ab, lS lt (by omega), Option.bind_some, nI_1]
      refine ⟨_, ⟨k1.trans (kj.w rfl), ?_⟩, rfl⟩
      rw [dT c]
      intro x hx y hy
      unfold incD
      by_cases q : x = C.2.1 i ∧ y = C.2.2 i
      · rw [if_pos q, q.1, q.2, mI_ws]
      · rw [if_neg q, mI_wy (by omega)]
        exact d1 x hx y hy
    · rw [if_neg c, if_pos rfl, nI_1]
      exact ⟨t, ⟨k1, by rw [dF c]; exact d1⟩, rfl⟩) (by
    intro f t ⟨k1, d1⟩
    have lt := k1.ly l
    rw [l_X6_isRowOf_23.eq_2, gI_T (T85 lt), Option.bind_some, (hC.k k1).1, if_neg (nI_nlt (Nat.le_refl _) (by omega))]) (f := F) (σ := s0) (by omega) ⟨k0, fun a ha b hb => z0 _ (by omega)⟩
  rw [e9]
  have l9 := k9.ly l
  have b9 : b99 (dSet C s C.1) := fun a _ b _ => Nat.le_trans (dSet_le C.1 a b) (by omega)
  obtain ⟨z, e, hz⟩ := e_X6_isRow (F := F) l9 d9 b9 hp (by omega)
  (try dsimp only)
  rw [e, bq_some, rowb_eq hz]
  refine ⟨s9, ?_, k9⟩
  unfold rz
  by_cases c : rowb (dSet C s C.1) p = true
  · rw [if_pos c, if_pos (Or.inr rfl), Option.bind_some]
  · rw [if_neg c, if_pos (Or.inl rfl), Option.bind_some]
theorem e_X6_hoursOf {σ : MM} {C : CO} {s : Nat} (l : lay σ) (hE : ME σ G.t G.xs G.ys) (hC : hasM σ C) (hw : coW C) (hn : C.1 ≤ 8) (hs : s < 2147483648) (hF : 100000 ≤ F) : g_X6_hoursOf F σ 85 (nI s) = some (nI (hSet G.xs G.ys C s C.1), σ) := by
  unfold g_X6_hoursOf
  rw [if_pos (T85 l)]
  refine ylv (fun f v i σ => l_X6_hoursOf_4 (fun (r2_14 : Int32) (σ13 : MM) => some (r2_14, σ13)) F 85 (nI s) f v i σ) (fun v σ => some (v, σ)) (fun i => nI (hSet G.xs G.ys C s i)) σ C.1 (fun f i hi => ?_) (fun f => ?_) (f := F) (by omega)
  · obtain ⟨b1, b2, b3⟩ := hw i hi
    have i12 : i < 12 := by omega
    obtain ⟨c1, c2⟩ := hC.2 i hi
    have g1 : aI σ 112 20 (nI i) = some (nI (C.2.1 i)) := by rw [aI_T (by rw [T112 l]) (by rw [T112 l]; exact i12) (by rw [T112 l]; decide), c1]
    have g2 : aI σ 113 20 (nI i) = some (nI (C.2.2 i)) := by rw [aI_T (by rw [T113 l]) (by rw [T113 l]; exact i12) (by rw [T113 l]; decide), c2]
    have hh : hSet G.xs G.ys C s (i + 1) = hSet G.xs G.ys C s i + (if s.testBit i = true then wayS G.xs G.ys (C.2.1 i) (C.2.2 i) else 0) := rfl
    (try dsimp only)
    rw [l_X6_hoursOf_4.eq_2, gI_T (T85 l), Option.bind_some, hC.1, if_pos (nI_lt hi (by omega)), e_hasM (by omega) (by omega), bq_some, hh, nI_1]
    dsimp only [jn]
    by_cases c : s.testBit i = true
    · rw [if_pos c, if_pos c, if_neg (by decide), gP_T (T85 l), Option.bind_some, P85_48 l, g1, Option.bind_some, gP_T (T85 l), Option.bind_some, P85_49 l, g2, Option.bind_some, e_wayM l hE b1 b2, bq_some, nI_add]
    · rw [if_neg c, if_neg c, if_pos rfl, show (0 : Int32) = nI 0 from rfl, nI_add]
  · (try dsimp only)
    rw [l_X6_hoursOf_4.eq_2, gI_T (T85 l), Option.bind_some, hC.1, if_neg (nI_nlt (Nat.le_refl _) (by omega))]
theorem two_M {σ : MM} {C : CO} {p hd : Nat} (h : MI σ G) (hC : hasM σ C) (hw : coW C) (hn : C.1 ≤ 8) (hp : p < 10) (hq : G.S.2.2.2 0 = hd) (hq2 : hd < 10) (hx : ∀ p, p < 10 → G.xs p < 10 ∧ G.ys p < 10) (hF : 100000 ≤ F) (K : Int32 → MM → Option (Int32 × MM)) : ∃ σ', l_X6_two_52 K F 85 (nI p) (nI (2 ^ C.1 - 1)) F 1000000 0 σ = K (tN 1000000 (twoS G.xs G.ys C (2 ^ C.1 - 1) hd p (2 ^ C.1))) σ' ∧ kj rLf σ σ' := by
  have p2 : 2 ^ C.1 ≤ 256 := (Nat.pow_le_pow_right (by decide) hn : 2 ^ _ ≤ 2 ^ 8)
  have p1 : 0 < 2 ^ C.1 := Nat.pow_pos (by decide)
  obtain ⟨v, s, ⟨k1, v1⟩, e1⟩ := yl2 (fun f v i σ => l_X6_two_52 K F 85 (nI p) (nI (2 ^ C.1 - 1)) f v i σ) K (fun i v s => kj rLf σ s ∧ v = tN 1000000 (twoS G.xs G.ys C (2 ^ C.1 - 1) hd p i)) (2 ^ C.1) (by
    intro f i v s hi ⟨k1, v1⟩
    subst v1
    have hs := h.s k1 rLf_rSM
    have ls := hs.l
    have hC1 := hC.k k1
    have ll : less (2 ^ C.1 - 1) i < 2 ^ C.1 := less_lt (by omega)
    have h1 := e_X6_hoursOf (F := F) (s := i) ls hs.1.2.2 hC1 hw hn (by omega) hF
    have h2 := e_X6_hoursOf (F := F) (s := less (2 ^ C.1 - 1) i) ls hs.1.2.2 hC1 hw hn (by omega) hF
    have u1 := hSet_le (s := i) hx hw C.1 (Nat.le_refl _)
    have u2 := hSet_le (s := less (2 ^ C.1 - 1) i) hx hw C.1 (Nat.le_refl _)
    have eT : (rowb (dSet C i C.1) hd = true ∧ rowb (dSet C (less (2 ^ C.1 - 1) i) C.1) p = true ∧ (twoS G.xs G.ys C (2 ^ C.1 - 1) hd p i = 0 ∨ longS2 G.xs G.ys C (2 ^ C.1 - 1) i < twoS G.xs G.ys C (2 ^ C.1 - 1) hd p i - 1)) → twoS G.xs G.ys C (2 ^ C.1 - 1) hd p (i + 1) = longS2 G.xs G.ys C (2 ^ C.1 - 1) i + 1 := fun q => if_pos q
    have eF : ¬ (rowb (dSet C i C.1) hd = true ∧ rowb (dSet C (less (2 ^ C.1 - 1) i) C.1) p = true ∧ (twoS G.xs G.ys C (2 ^ C.1 - 1) hd p i = 0 ∨ longS2 G.xs G.ys C (2 ^ C.1 - 1) i < twoS G.xs G.ys C (2 ^ C.1 - 1) hd p i - 1)) → twoS G.xs G.ys C (2 ^ C.1 - 1) hd p (i + 1) = twoS G.xs G.ys C (2 ^ C.1 - 1) hd p i := fun q => if_neg q
    have bi := twoS_le (G := G) (C := C) (hd := hd) (p := p) hx hw hn i
    have bl : longS2 G.xs G.ys C (2 ^ C.1 - 1) i ≤ 144 := Nat.max_le.mpr ⟨by omega, by omega⟩
    have a3 : aI s 86 20 151 = some (nI hd) := by rw [a151 ls, hs.2.1.2.2.2.1, hq, qv_lt hq2]
    have lt_iff : nI (longS2 G.xs G.ys C (2 ^ C.1 - 1) i) < tN 1000000 (twoS G.xs G.ys C (2 ^ C.1 - 1) hd p i) ↔ (twoS G.xs G.ys C (2 ^ C.1 - 1) hd p i = 0 ∨ longS2 G.xs G.ys C (2 ^ C.1 - 1) i < twoS G.xs G.ys C (2 ^ C.1 - 1) hd p i - 1) := by
      unfold tN
      by_cases c : twoS G.xs G.ys C (2 ^ C.1 - 1) hd p i = 0
      · rw [if_pos c]
        exact ⟨fun _ => Or.inl c, fun _ => nI_lt (by omega) (by decide)⟩
      · rw [if_neg c]
        exact ⟨fun q => Or.inr ((nI_ltI (by omega) (by omega)).mp q), fun q => nI_lt (q.resolve_left c) (by omega)⟩
    (try dsimp only)
    rw [l_X6_two_52.eq_2, if_neg (nI_nlt (by omega) (by omega)), h1, bq_some, bx_less, h2, bq_some, e_maxM (by omega) (by omega), bq_some, nI_1]
    rw [show max (hSet G.xs G.ys C i C.1) (hSet G.xs G.ys C (less (2 ^ C.1 - 1) i) C.1) = longS2 G.xs G.ys C (2 ^ C.1 - 1) i from rfl]
    by_cases c3 : nI (longS2 G.xs G.ys C (2 ^ C.1 - 1) i) < tN 1000000 (twoS G.xs G.ys C (2 ^ C.1 - 1) hd p i)
    · obtain ⟨s2, e2, k2⟩ := e_X6_isRowOf (F := F) (s := i) ls hC1 hw hn (by omega) hq2 hF
      rw [if_pos c3, gN ls, Option.bind_some, a3, Option.bind_some, e2, bq_some]
      by_cases c1 : rowb (dSet C i C.1) hd = true
      · obtain ⟨s3, e3, k3⟩ := e_X6_isRowOf (F := F) (s := less (2 ^ C.1 - 1) i) (k2.ly ls) (hC1.k k2) hw hn (by omega) hp hF
        rw [if_pos c1, if_neg (by decide), e3, bq_some]
        by_cases c2 : rowb (dSet C (less (2 ^ C.1 - 1) i) C.1) p = true
        · rw [if_pos c2, if_neg (by decide), eT ⟨c1, c2, lt_iff.mp c3⟩]
          exact ⟨_, s3, ⟨(k1.trans k2).trans k3, rfl⟩, rfl⟩
        · rw [if_neg c2, if_pos rfl, eF (fun q => c2 q.2.1)]
          exact ⟨_, s3, ⟨(k1.trans k2).trans k3, rfl⟩, rfl⟩
      · rw [if_neg c1, if_pos rfl, eF (fun q => c1 q.1)]
        exact ⟨_, s2, ⟨k1.trans k2, rfl⟩, rfl⟩
    · rw [if_neg c3, eF (fun q => c3 (lt_iff.mpr q.2.2))]
      exact ⟨_, s, ⟨k1, rfl⟩, rfl⟩) (by
    intro f v s _
    (try dsimp only)
    rw [l_X6_two_52.eq_2, if_pos (nI_lt (by omega) (by omega))]) (f := F) (v := 1000000) (by omega) ⟨kj.refl, rfl⟩
  refine ⟨s, e1.trans ?_, k1⟩
  rw [v1]
theorem call_two (hG : GW B G) (hF : 100000 ≤ F) (a : Int32) : Call B G (fun σ => g_X0_two F σ 1 a) (fun τ => g_X6_two F τ 85 a) := by
  unfold g_X0_two g_X6_two
  have all9900 : allS G.S.1 ≤ 9900 := Nat.le_trans (sm_le (M := 990) 10 (fun a ha => owes_le hG.2.2.1.b99 ha)) (by decide)
  rcases told_is (x := a) hG with ⟨p, hp, tp, rfl⟩ | ⟨n1, n2⟩
  · by_cases hq : G.S.2.2.2 0 < 10
    · by_cases hm : allS G.S.1 ≤ 8
      · have hn : (coins G.S.1).1 ≤ 8 := by rw [coins_n]; exact hm
        have hw := coins_W hG.2.2.1
        have p1 : 0 < 2 ^ (coins G.S.1).1 := Nat.pow_pos (by decide)
        have bt := twoS_le (G := G) (C := coins G.S.1) (hd := G.S.2.2.2 0) (p := p) hG.2.1 hw hn (2 ^ (coins G.S.1).1)
        have ans : ∀ N, 1000000 ≤ N → N ≤ 268435456 → ∀ (σ : MM), (if tN N (twoS G.xs G.ys (coins G.S.1) (2 ^ (coins G.S.1).1 - 1) (G.S.2.2.2 0) p (2 ^ (coins G.S.1).1)) = nI N then some ((-4 : Int32), σ) else some (tN N (twoS G.xs G.ys (coins G.S.1) (2 ^ (coins G.S.1).1 - 1) (G.S.2.2.2 0) p (2 ^ (coins G.S.1).1)), σ)) = some (if twoS G.xs G.ys (coins G.S.1) (2 ^ (coins G.S.1).1 - 1) (G.S.2.2.2 0) p (2 ^ (coins G.S.1).1) = 0 then -4 else nI (twoS G.xs G.ys (coins G.S.1) (2 ^ (coins G.S.1).1 - 1) (G.S.2.2.2 0) p (2 ^ (coins G.S.1).1) - 1), σ) := by
          intro N h1 h2 σ
          unfold tN
          by_cases c : twoS G.xs G.ys (coins G.S.1) (2 ^ (coins G.S.1).1 - 1) (G.S.2.2.2 0) p (2 ^ (coins G.S.1).1) = 0
          · rw [if_pos c, if_pos c, if_pos rfl]
          · rw [if_neg c, if_neg c, if_neg (fun q => by have := (nI_eq (by omega) (by omega)).mp q; omega)]
        refine call_same hG (if twoS G.xs G.ys (coins G.S.1) (2 ^ (coins G.S.1).1 - 1) (G.S.2.2.2 0) p (2 ^ (coins G.S.1).1) = 0 then -4 else nI (twoS G.xs G.ys (coins G.S.1) (2 ^ (coins G.S.1).1 - 1) (G.S.2.2.2 0) p (2 ^ (coins G.S.1).1) - 1)) (fun σ h => ?_) (fun τ h => ?_)
        · obtain ⟨s, e, k1, c⟩ := e_X0_takesDebts (F := F) hG h (by omega) hF
          have h1 := h.s k1 rCo_rSC
          obtain ⟨s2, e2, k2⟩ := two_C (F := F) h1 c hw hn hp rfl hq hG.2.1 hF (fun (r4_22 : Int32) (σ21 : MM) => if r4_22 = 268435456 then (some ((-4), σ21)) else (some (r4_22, σ21)))
          refine ⟨s2, ?_, (k1.mono rCo_rSC).trans (k2.mono (fun x y q => rWk_rSC x y (rWo_rWk x y q)))⟩
          have es : ((1 : Int32) <<< (nI (coins G.S.1).1 &&& 31)) - 1 = nI (2 ^ (coins G.S.1).1 - 1) := by rw [bx_one (by omega), show (1 : Int32) = nI 1 from rfl, nI_sub p1]
          (try dsimp only)
          rw [if_pos (T1 h.l), told_yes h.l h.1.2.2 hp tp, bq_some, if_neg (by decide), gP_T (T1 h.l), Option.bind_some, P1_4 h.l, gI_T (T5 h.l), Option.bind_some, h.2.1.2.2.2.1, if_neg (pv_ne hq), Option.bind_some, dbP h.l d5, Option.bind_some, e_X4_all (d5.B h.l) h.2.1.1 (by omega), bq_some, if_neg (show ¬ 8 < nI (allS G.S.1) from nI_nlt (a := 8) hm (by decide)), e, bq_some, ← coins_n, es, e2]
          exact ans 268435456 (by decide) (by decide) s2
        · obtain ⟨z, s, e, k1, hz⟩ := e_X6_laysCoins (F := F) (M := 8) hG h (by decide) hF
          have h1 := h.s k1 rCm_rSM
          rcases hz with ⟨q, -⟩ | ⟨-, rfl, c⟩
          · omega
          · obtain ⟨s2, e2, k2⟩ := two_M (F := F) h1 c hw hn hp rfl hq hG.2.1 hF (fun (r3_21 : Int32) (σ20 : MM) => if r3_21 = 1000000 then (some ((-4), σ20)) else (some (r3_21, σ20)))
            refine ⟨s2, ?_, (k1.mono rCm_rSM).trans (k2.mono rLf_rSM)⟩
            have es : ((1 : Int32) <<< (nI (coins G.S.1).1 &&& 31)) - 1 = nI (2 ^ (coins G.S.1).1 - 1) := by rw [bx_one (by omega), show (1 : Int32) = nI 1 from rfl, nI_sub p1]
            (try dsimp only)
            rw [if_pos (T85 h.l), person_yes h.l h.1.2.2 hp tp, bq_some, if_neg (by decide), gN h.l, Option.bind_some, a151 h.l, Option.bind_some, h.2.1.2.2.2.1, if_neg (qv_ne hq), show (8 : Int32) = nI 8 from rfl, e, bq_some, if_neg (by decide), gI_T (T85 h1.l), Option.bind_some, c.1, es, e2]
            exact ans 1000000 (by decide) (by decide) s2
      · refine call_same hG (-3) (fun σ h => ⟨σ, ?_, kj.refl⟩) (fun τ h => ?_)
        · (try dsimp only)
          rw [if_pos (T1 h.l), told_yes h.l h.1.2.2 hp tp, bq_some, if_neg (by decide), gP_T (T1 h.l), Option.bind_some, P1_4 h.l, gI_T (T5 h.l), Option.bind_some, h.2.1.2.2.2.1, if_neg (pv_ne hq), Option.bind_some, dbP h.l d5, Option.bind_some, e_X4_all (d5.B h.l) h.2.1.1 (by omega), bq_some, if_pos (show 8 < nI (allS G.S.1) from nI_lt (a := 8) (by omega) (by omega))]
        · obtain ⟨z, s, e, k1, hz⟩ := e_X6_laysCoins (F := F) (M := 8) hG h (by decide) hF
          refine ⟨s, ?_, k1.mono rCm_rSM⟩
          rcases hz with ⟨-, rfl⟩ | ⟨q, -⟩
          · (try dsimp only)
            rw [if_pos (T85 h.l), person_yes h.l h.1.2.2 hp tp, bq_some, if_neg (by decide), gN h.l, Option.bind_some, a151 h.l, Option.bind_some, h.2.1.2.2.2.1, if_neg (qv_ne hq), show (8 : Int32) = nI 8 from rfl, e, bq_some, if_pos rfl]
          · omega
    · have h10 : G.S.2.2.2 0 = 10 := by have := hG.2.2.1.2.2.1; omega
      refine call_look hG (-2) (fun σ h => ?_) (fun τ h => ?_)
      · (try dsimp only)
        rw [if_pos (T1 h.l), told_yes h.l h.1.2.2 hp tp, bq_some, if_neg (by decide), gP_T (T1 h.l), Option.bind_some, P1_4 h.l, gI_T (T5 h.l), Option.bind_some, h.2.1.2.2.2.1, h10, if_pos pv_10]
      · (try dsimp only)
        rw [if_pos (T85 h.l), person_yes h.l h.1.2.2 hp tp, bq_some, if_neg (by decide), gN h.l, Option.bind_some, a151 h.l, Option.bind_some, h.2.1.2.2.2.1, h10, if_pos (show qv 10 < 0 by decide)]
  · refine call_look hG (-1) (fun σ h => ?_) (fun τ h => ?_)
    · (try dsimp only)
      rw [if_pos (T1 h.l), n1 F σ h, bq_some, if_pos rfl]
    · (try dsimp only)
      rw [if_pos (T85 h.l), n2 F τ h, bq_some, if_pos rfl]
end TWO
