/-! HOW SOON IT COMES BACK: 0 means never -/
def comb (x y z : Nat) : Nat := if x = 0 then (if y = 0 ∨ z = 0 then 0 else y + z) else (if y = 0 ∨ z = 0 then x else min x (y + z))
def updW (w : Nat → Nat → Nat) (a b v : Nat) : Nat → Nat → Nat := fun x y => if x = a ∧ y = b then v else w x y
def fwB (k a : Nat) : Nat → (Nat → Nat → Nat) → Nat → Nat → Nat
  | 0, w => w
  | n + 1, w => updW (fwB k a n w) a n (comb (fwB k a n w a n) (fwB k a n w a k) (fwB k a n w k n))
def fwA (k : Nat) : Nat → (Nat → Nat → Nat) → Nat → Nat → Nat
  | 0, w => w
  | n + 1, w => fwB k n 10 (fwA k n w)
def fwK : Nat → (Nat → Nat → Nat) → Nat → Nat → Nat
  | 0, w => w
  | n + 1, w => fwA n 10 (fwK n w)
theorem fwA_s {k n : Nat} {w : Nat → Nat → Nat} : fwA k (n + 1) w = fwB k n 10 (fwA k n w) := rfl
theorem fwK_s {n : Nat} {w : Nat → Nat → Nat} : fwK (n + 1) w = fwA n 10 (fwK n w) := rfl
/-- bounds while k is the middle -/
def fwI (M k : Nat) (w : Nat → Nat → Nat) : Prop := (∀ a b, w a b ≤ 2 * M) ∧ (∀ a, w a k ≤ M) ∧ ∀ b, w k b ≤ M
theorem fwI_upd {M k a b : Nat} {w : Nat → Nat → Nat} (h : fwI M k w) : fwI M k (updW w a b (comb (w a b) (w a k) (w k b))) := by
  obtain ⟨h1, h2, h3⟩ := h
  have ha := h2 a
  have hb := h3 b
  have hab := h1 a b
  refine ⟨fun x y => ?_, fun x => ?_, fun y => ?_⟩
  · show (if x = a ∧ y = b then comb (w a b) (w a k) (w k b) else w x y) ≤ 2 * M
    by_cases c : x = a ∧ y = b
    · rw [if_pos c]
      unfold comb
      split <;> split <;> omega
    · rw [if_neg c]; exact h1 x y
  · show (if x = a ∧ k = b then comb (w a b) (w a k) (w k b) else w x k) ≤ M
    by_cases c : x = a ∧ k = b
    · rw [if_pos c]
      obtain ⟨rfl, rfl⟩ := c
      unfold comb
      split <;> split <;> omega
    · rw [if_neg c]; exact h2 x
  · show (if k = a ∧ y = b then comb (w a b) (w a k) (w k b) else w k y) ≤ M
    by_cases c : k = a ∧ y = b
    · rw [if_pos c]
      obtain ⟨rfl, rfl⟩ := c
      unfold comb
      split <;> split <;> omega
    · rw [if_neg c]; exact h3 y
theorem fwI_B {M k a : Nat} {w : Nat → Nat → Nat} (h : fwI M k w) : ∀ n, fwI M k (fwB k a n w)
  | 0 => h
  | n + 1 => fwI_upd (fwI_B h n)
theorem fwI_A {M k : Nat} {w : Nat → Nat → Nat} (h : fwI M k w) : ∀ n, fwI M k (fwA k n w)
  | 0 => h
  | n + 1 => by
    rw [fwA_s]
    exact fwI_B (fwI_A h n) 10
theorem fwK_le {w : Nat → Nat → Nat} (h : ∀ a b, w a b ≤ 18) : ∀ n a b, fwK n w a b ≤ 18 * 2 ^ n
  | 0, a, b => by show w a b ≤ 18 * 2 ^ 0; have := h a b; omega
  | n + 1, a, b => by
    have ih := fwK_le h n
    have h0 : fwI (18 * 2 ^ n) n (fwK n w) := ⟨fun a b => by have := ih a b; omega, fun a => ih a n, fun b => ih n b⟩
    rw [fwK_s]
    have := (fwI_A h0 10).1 a b
    rw [Nat.pow_succ]
    omega
theorem fwK_I {w : Nat → Nat → Nat} (h : ∀ a b, w a b ≤ 18) {k a b : Nat} (hk : k < 10) : ∀ x y, fwB k a b (fwA k a (fwK k w)) x y ≤ 18432 := by
  have ih := fwK_le h k
  have h0 : fwI (18 * 2 ^ k) k (fwK k w) := ⟨fun a b => by have := ih a b; omega, fun a => ih a k, fun b => ih k b⟩
  intro x y
  have h1 := (fwI_B (a := a) (fwI_A h0 a) b).1 x y
  have : 2 ^ k ≤ 2 ^ 9 := Nat.pow_le_pow_right (by decide) (by omega)
  omega
seal fwB fwA fwK
def fN (N v : Nat) : Int32 := if v = 0 then nI N else nI v
theorem fN_comb {N x y z : Nat} (hN : 40000 ≤ N) (hN2 : N ≤ 268435456) (hx : x ≤ 18432) (hy : y ≤ 18432) (hz : z ≤ 18432) : jmin (fN N x) (fN N y + fN N z) = fN N (comb x y z) := by
  unfold fN comb
  by_cases cx : x = 0
  · rw [if_pos cx, if_pos cx]
    by_cases cy : y = 0
    · rw [if_pos cy, if_pos (Or.inl cy), if_pos rfl]
      by_cases cz : z = 0
      · rw [if_pos cz, nI_add, jmin_nI (by omega) (by omega), Nat.min_eq_left (by omega)]
      · rw [if_neg cz, nI_add, jmin_nI (by omega) (by omega), Nat.min_eq_left (by omega)]
    · rw [if_neg cy]
      by_cases cz : z = 0
      · rw [if_pos cz, if_pos (Or.inr cz), if_pos rfl, nI_add, jmin_nI (by omega) (by omega), Nat.min_eq_left (by omega)]
      · rw [if_neg cz, if_neg (show ¬ (y = 0 ∨ z = 0) by omega), if_neg (show ¬ y + z = 0 by omega), nI_add, jmin_nI (by omega) (by omega), Nat.min_eq_right (by omega)]
  · rw [if_neg cx, if_neg cx]
    by_cases cy : y = 0
    · rw [if_pos cy, if_pos (Or.inl cy), if_neg cx]
      by_cases cz : z = 0
      · rw [if_pos cz, nI_add, jmin_nI (by omega) (by omega), Nat.min_eq_left (by omega)]
      · rw [if_neg cz, nI_add, jmin_nI (by omega) (by omega), Nat.min_eq_left (by omega)]
    · rw [if_neg cy]
      by_cases cz : z = 0
      · rw [if_pos cz, if_pos (Or.inr cz), if_neg cx, nI_add, jmin_nI (by omega) (by omega), Nat.min_eq_left (by omega)]
      · rw [if_neg cz, if_neg (show ¬ (y = 0 ∨ z = 0) by omega), if_neg (show ¬ min x (y + z) = 0 by omega), nI_add, jmin_nI (by omega) (by omega)]
theorem fN_combM {F : Nat} {σ : MM} {N x y z : Nat} (hN : 40000 ≤ N) (hN2 : N ≤ 268435456) (hx : x ≤ 18432) (hy : y ≤ 18432) (hz : z ≤ 18432) : g_X6_min F σ (fN N x) (fN N y + fN N z) = some (fN N (comb x y z), σ) := by
  have b : ∀ v, v ≤ 18432 → ∃ m, m ≤ 268435456 ∧ fN N v = nI m := fun v hv => by
    unfold fN
    by_cases c : v = 0
    · rw [if_pos c]; exact ⟨N, hN2, rfl⟩
    · rw [if_neg c]; exact ⟨v, by omega, rfl⟩
  have h := fN_comb hN hN2 hx hy hz
  obtain ⟨m1, u1, e1⟩ := b x hx
  obtain ⟨m2, u2, e2⟩ := b y hy
  obtain ⟨m3, u3, e3⟩ := b z hz
  rw [← h, e1, e2, e3, nI_add, e_minM (by omega) (by omega), jmin_nI (by omega) (by omega)]
/-- at first -/
def way0 (xs ys : Nat → Nat) (d : Nat → Nat → Nat) (hr : Nat) : Nat → Nat → Nat := fun a b => if a < 10 ∧ b < 10 then (if d a b = 0 then 0 else if hr = 0 then 1 else wayS xs ys a b) else 0
theorem way0_le {xs ys : Nat → Nat} {d : Nat → Nat → Nat} {hr : Nat} (h : ∀ p, p < 10 → xs p < 10 ∧ ys p < 10) : ∀ a b, way0 xs ys d hr a b ≤ 18 := by
  intro a b
  unfold way0
  by_cases c : a < 10 ∧ b < 10
  · rw [if_pos c]
    have := (wayS_b h c.1 c.2).2
    split
    · omega
    · split <;> omega
  · rw [if_neg c]; omega
section BACK
variable {B F : Nat} {G : GG}
def hasW (σ : MM) (w : Nat → Nat → Nat) : Prop := ∀ a, a < 10 → ∀ b, b < 10 → mI σ (70 + a) b = fN 268435456 (w a b)
def rW (x _y : Nat) : Prop := 70 ≤ x ∧ x ≤ 79
theorem rW_rSC (x y : Nat) (h : rW x y) : rSC x y := by
  unfold rW at h
  unfold rSC
  omega
theorem wO {σ : MM} (l : lay σ) : gP σ 1 0 22 16 = some 69 := by rw [gP_T (T1 l), P1_16 l]
theorem wR {σ : MM} {a : Nat} (l : lay σ) (ha : a < 10) : aP σ 69 22 (nI a) = some (70 + a) := by
  rw [aP_T (by rw [T69 l]) (by rw [T69 l]; exact ha) (by rw [T69 l]; decide), G69 l ha]
theorem wG {σ : MM} {a b : Nat} (l : lay σ) (ha : a < 10) (hb : b < 10) : aI σ (70 + a) 20 (nI b) = some (mI σ (70 + a) b) := by
  have h : mT σ (70 + a) = (20, 10) := R69 l ha
  exact aI_T (by rw [h]) (by rw [h]; exact hb) (by rw [h]; decide)
theorem wS {σ : MM} {a b : Nat} {v : Int32} (l : lay σ) (ha : a < 10) (hb : b < 10) : sI σ (70 + a) (nI b) v = some (wI σ (70 + a) b v) := by
  have h : mT σ (70 + a) = (20, 10) := R69 l ha
  exact sI_T (by rw [h]) (by rw [h]; exact hb) (by rw [h]; decide)
theorem e_X0_laysWays {σ : MM} (hG : GW B G) (h : CI B σ G) {hr : Nat} (hhr : hr ≤ 1) (hF : 100000 ≤ F) : ∃ σ', g_X0_laysWays F σ 1 (nI hr) = some σ' ∧ kj rW σ σ' ∧ hasW σ' (fwK 10 (way0 G.xs G.ys G.S.1 hr)) := by
  have l := h.l
  have h9 := hG.2.2.1.b99
  unfold g_X0_laysWays
  rw [if_pos (T1 l)]
  -- at first
  obtain ⟨s1, ⟨k1, w1⟩, e1⟩ := yl1 (l_X0_laysWays_2 (fun (σ14 : MM) => l_X0_laysWays_74 (fun (σ31 : MM) => some σ31) F 1 F 0 σ14) F 1 (nI hr)) (fun (σ14 : MM) => l_X0_laysWays_74 (fun (σ31 : MM) => some σ31) F 1 F 0 σ14) (fun i s => kj rW σ s ∧ ∀ a, a < i → ∀ b, b < 10 → mI s (70 + a) b = fN 268435456 (way0 G.xs G.ys G.S.1 hr a b)) 10 (by
    intro f i s hi ⟨hk, hw⟩
    rw [l_X0_laysWays_2.eq_2, if_pos (ten_in hi)]
    obtain ⟨s2, ⟨k2, w2, v2⟩, e2⟩ := yl1 (l_X0_laysWays_10 (fun (σ13 : MM) => l_X0_laysWays_2 (fun (σ14 : MM) => l_X0_laysWays_74 (fun (σ31 : MM) => some σ31) F 1 F 0 σ14) F 1 (nI hr) f ((nI i + 1)) σ13) F 1 (nI hr) (nI i)) (fun (σ13 : MM) => l_X0_laysWays_2 (fun (σ14 : MM) => l_X0_laysWays_74 (fun (σ31 : MM) => some σ31) F 1 F 0 σ14) F 1 (nI hr) f ((nI i + 1)) σ13) (fun j s' => kj rW σ s' ∧ (∀ a, a < i → ∀ b, b < 10 → mI s' (70 + a) b = fN 268435456 (way0 G.xs G.ys G.S.1 hr a b)) ∧ ∀ b, b < j → mI s' (70 + i) b = fN 268435456 (way0 G.xs G.ys G.S.1 hr i b)) 10 (by
      intro g j s' hj ⟨k2, w2, v2⟩
      have hs := h.s k2 rW_rSC
      have ls := hs.l
      have h99 := h9 i hi j hj
      have put : ∀ v : Int32, v = fN 268435456 (way0 G.xs G.ys G.S.1 hr i j) → kj rW σ (wI s' (70 + i) j v) ∧ (∀ a, a < i → ∀ b, b < 10 → mI (wI s' (70 + i) j v) (70 + a) b = fN 268435456 (way0 G.xs G.ys G.S.1 hr a b)) ∧ ∀ b, b < j + 1 → mI (wI s' (70 + i) j v) (70 + i) b = fN 268435456 (way0 G.xs G.ys G.S.1 hr i b) := by
        intro v hv
        refine ⟨k2.trans (kj.w ⟨by omega, by omega⟩), fun a ha b hb => ?_, fun b hb => ?_⟩
        · rw [mI_wn (by omega)]; exact w2 a ha b hb
        · by_cases c : b = j
          · subst c; rw [mI_ws]; exact hv
          · rw [mI_wy c]; exact v2 b (by omega)
      have w0 : way0 G.xs G.ys G.S.1 hr i j = if G.S.1 i j = 0 then 0 else if hr = 0 then 1 else wayS G.xs G.ys i j := by unfold way0; rw [if_pos ⟨hi, hj⟩]
      rw [l_X0_laysWays_10.eq_2, if_pos (ten_in hj), wO ls, Option.bind_some, wR ls hi, Option.bind_some, gP_T (T1 ls), Option.bind_some, P1_4 ls, dbP ls d5, Option.bind_some, dbO ls d5, Option.bind_some, rowP ls d5 hi, Option.bind_some, rowI ls d5 hi hj, Option.bind_some, show mI s' (5 + 3 + i) j = _ from hs.2.1.1 i hi j hj]
      by_cases c : G.S.1 i j = 0
      · rw [if_pos (by rw [c]; rfl), wS ls hi hj, Option.bind_some, nI_1 j]
        exact ⟨_, put 268435456 (by rw [w0, if_pos c]; rfl), rfl⟩
      · rw [if_neg (nI_ne0 (by omega) (by omega))]
        by_cases c2 : hr = 0
        · rw [if_pos (by rw [c2]; rfl), wS ls hi hj, Option.bind_some, nI_1 j]
          exact ⟨_, put 1 (by rw [w0, if_neg c, if_pos c2]; rfl), rfl⟩
        · have wb := wayS_b hG.2.1 hi hj
          rw [if_neg (nI_ne0 (by omega) (by omega)), e_way ls hs.1.2.2 hi hj, bq_some, wS ls hi hj, Option.bind_some, nI_1 j]
          exact ⟨_, put (nI (wayS G.xs G.ys i j)) (by rw [w0, if_neg c, if_neg c2]; unfold fN; rw [if_neg (by omega)]), rfl⟩) (by
      intro g s' _
      rw [l_X0_laysWays_10.eq_2, if_neg ten_no]) (f := F) (by omega) ⟨hk, hw, fun b hb => absurd hb (Nat.not_lt_zero b)⟩
    refine ⟨s2, ⟨k2, fun a ha b hb => ?_⟩, ?_⟩
    · by_cases c : a = i
      · subst c; exact v2 b hb
      · exact w2 a (by omega) b hb
    · rw [← nI_1]; exact e2) (by
    intro f s _
    rw [l_X0_laysWays_2.eq_2, if_neg ten_no]) (f := F) (by omega) ⟨kj.refl, fun a ha => absurd ha (Nat.not_lt_zero a)⟩
  rw [e1]
  (try dsimp only)
  have w0le := way0_le (xs := G.xs) (ys := G.ys) (d := G.S.1) (hr := hr) hG.2.1
  obtain ⟨w, hwe⟩ : ∃ w, way0 G.xs G.ys G.S.1 hr = w := ⟨_, rfl⟩
  rw [hwe] at w1 w0le ⊢
  obtain ⟨s9, ⟨k9, w9⟩, e9⟩ := yl1 (l_X0_laysWays_74 (fun (σ31 : MM) => some σ31) F 1) (fun (σ31 : MM) => some σ31) (fun k s => kj rW σ s ∧ hasW s (fwK k w)) 10 (by
    intro f k s hk ⟨k2, w2⟩
    rw [l_X0_laysWays_74.eq_2, if_pos (ten_in hk)]
    obtain ⟨s3, ⟨k3, w3⟩, e3⟩ := yl1 (l_X0_laysWays_82 (fun (σ30 : MM) => l_X0_laysWays_74 (fun (σ31 : MM) => some σ31) F 1 f ((nI k + 1)) σ30) F 1 (nI k)) (fun (σ30 : MM) => l_X0_laysWays_74 (fun (σ31 : MM) => some σ31) F 1 f ((nI k + 1)) σ30) (fun a s => kj rW σ s ∧ hasW s (fwA k a (fwK k w))) 10 (by
      intro g a s ha ⟨k3, w3⟩
      rw [l_X0_laysWays_82.eq_2, if_pos (ten_in ha)]
      obtain ⟨s4, ⟨k4, w4⟩, e4⟩ := yl1 (l_X0_laysWays_91 (fun (σ29 : MM) => l_X0_laysWays_82 (fun (σ30 : MM) => l_X0_laysWays_74 (fun (σ31 : MM) => some σ31) F 1 f ((nI k + 1)) σ30) F 1 (nI k) g ((nI a + 1)) σ29) F 1 (nI k) (nI a)) (fun (σ29 : MM) => l_X0_laysWays_82 (fun (σ30 : MM) => l_X0_laysWays_74 (fun (σ31 : MM) => some σ31) F 1 f ((nI k + 1)) σ30) F 1 (nI k) g ((nI a + 1)) σ29) (fun b s => kj rW σ s ∧ hasW s (fwB k a b (fwA k a (fwK k w)))) 10 (by
        intro e b s hb ⟨k4, w4⟩
        have ls := k4.ly l
        have bd := fwK_I (a := a) (b := b) w0le hk
        rw [l_X0_laysWays_91.eq_2, if_pos (ten_in hb)]
        simp only [wO ls, Option.bind_some, wR ls ha, wR ls hk, wG ls ha hb, wG ls ha hk, wG ls hk hb, w4 a ha b hb, w4 a ha k hk, w4 k hk b hb]
        rw [fN_comb (by decide) (by decide) (bd _ _) (bd _ _) (bd _ _), wS ls ha hb, Option.bind_some, nI_1 b]
        refine ⟨_, ⟨k4.trans (kj.w ⟨by omega, by omega⟩), fun x hx y hy => ?_⟩, rfl⟩
        have e0 : fwB k a (b + 1) (fwA k a (fwK k w)) = updW (fwB k a b (fwA k a (fwK k w))) a b (comb (fwB k a b (fwA k a (fwK k w)) a b) (fwB k a b (fwA k a (fwK k w)) a k) (fwB k a b (fwA k a (fwK k w)) k b)) := fwB.eq_2 _ _ _ _
        rw [e0]
        unfold updW
        by_cases c : x = a ∧ y = b
        · obtain ⟨rfl, rfl⟩ := c
          rw [mI_ws, if_pos ⟨rfl, rfl⟩]
        · rw [if_neg c, mI_wI, if_neg (by omega)]
          exact w4 x hx y hy) (by
        intro e s _
        rw [l_X0_laysWays_91.eq_2, if_neg ten_no]) (f := F) (by omega) ⟨k3, by rw [fwB.eq_1]; exact w3⟩
      exact ⟨s4, ⟨k4, by rw [fwA_s]; exact w4⟩, e4.trans (by rw [nI_1 a])⟩) (by
      intro g s _
      rw [l_X0_laysWays_82.eq_2, if_neg ten_no]) (f := F) (by omega) ⟨k2, by rw [fwA.eq_1]; exact w2⟩
    exact ⟨s3, ⟨k3, by rw [fwK_s]; exact w3⟩, e3.trans (by rw [nI_1 k])⟩) (by
    intro f s _
    rw [l_X0_laysWays_74.eq_2, if_neg ten_no]) (f := F) (by omega) ⟨k1, by rw [fwK.eq_1]; exact w1⟩
  exact ⟨s9, e9, k9, w9⟩
/-! the model's, both at once -/
def hasB (σ : MM) (A : Nat) (w : Nat → Nat → Nat) : Prop := ∀ a, a < 10 → ∀ b, b < 10 → mI σ A (10 * a + b) = fN 1000000 (w a b)
def rB (x _y : Nat) : Prop := x = 115 ∨ x = 116
theorem rB_rSM (x y : Nat) (h : rB x y) : rSM x y := by
  unfold rB at h
  unfold rSM
  omega
theorem b52 {σ : MM} (l : lay σ) : gP σ 85 5 62 52 = some 115 := by rw [gP_T (T85 l), P85_52 l]
theorem b53 {σ : MM} (l : lay σ) : gP σ 85 5 62 53 = some 116 := by rw [gP_T (T85 l), P85_53 l]
theorem bG {σ : MM} {A k : Nat} (l : lay σ) (hA : A = 115 ∨ A = 116) (hk : k < 100) : aI σ A 20 (nI k) = some (mI σ A k) := by
  have h : mT σ A = (20, 100) := by rcases hA with e | e <;> subst e <;> first | exact T115 l | exact T116 l
  exact aI_T (by rw [h]) (by rw [h]; exact hk) (by rw [h]; decide)
theorem bS {σ : MM} {A k : Nat} {v : Int32} (l : lay σ) (hA : A = 115 ∨ A = 116) (hk : k < 100) : sI σ A (nI k) v = some (wI σ A k v) := by
  have h : mT σ A = (20, 100) := by rcases hA with e | e <;> subst e <;> first | exact T115 l | exact T116 l
  exact sI_T (by rw [h]) (by rw [h]; exact hk) (by rw [h]; decide)
theorem hasB_put {σ : MM} {A k a b : Nat} {w : Nat → Nat → Nat} (ha : a < 10) (hb : b < 10) (h : hasB σ A w) : hasB (wI σ A (10 * a + b) (fN 1000000 k)) A (updW w a b k) := by
  intro x hx y hy
  unfold updW
  by_cases c : x = a ∧ y = b
  · obtain ⟨rfl, rfl⟩ := c
    rw [mI_ws, if_pos ⟨rfl, rfl⟩]
  · rw [if_neg c, mI_wy (by omega)]
    exact h x hx y hy
theorem hasB_o {σ : MM} {A A' j : Nat} {v : Int32} {w : Nat → Nat → Nat} (hne : A ≠ A') (h : hasB σ A w) : hasB (wI σ A' j v) A w := by
  intro x hx y hy
  rw [mI_wn hne]
  exact h x hx y hy
theorem e_X6_laysBack {σ : MM} (hG : GW B G) (h : MI σ G) (hF : 100000 ≤ F) : ∃ σ', g_X6_laysBack F σ 85 = some σ' ∧ kj rB σ σ' ∧ hasB σ' 115 (fwK 10 (way0 G.xs G.ys G.S.1 0)) ∧ hasB σ' 116 (fwK 10 (way0 G.xs G.ys G.S.1 1)) := by
  have l := h.l
  have h9 := hG.2.2.1.b99
  have A1 : (115 : Nat) = 115 ∨ (115 : Nat) = 116 := Or.inl rfl
  have A2 : (116 : Nat) = 115 ∨ (116 : Nat) = 116 := Or.inr rfl
  unfold g_X6_laysBack
  rw [if_pos (T85 l)]
  have w0 : ∀ hr i j, i < 10 → j < 10 → way0 G.xs G.ys G.S.1 hr i j = if G.S.1 i j = 0 then 0 else if hr = 0 then 1 else wayS G.xs G.ys i j := fun hr i j hi hj => by unfold way0; rw [if_pos ⟨hi, hj⟩]
  obtain ⟨s1, ⟨k1, w1⟩, e1⟩ := yl1 (l_X6_laysBack_2 (fun (σ17 : MM) => l_X6_laysBack_94 (fun (σ40 : MM) => some σ40) F 85 F 0 σ17) F 85) (fun (σ17 : MM) => l_X6_laysBack_94 (fun (σ40 : MM) => some σ40) F 85 F 0 σ17) (fun i s => kj rB σ s ∧ ∀ a, a < i → ∀ b, b < 10 → mI s 115 (10 * a + b) = fN 1000000 (way0 G.xs G.ys G.S.1 0 a b) ∧ mI s 116 (10 * a + b) = fN 1000000 (way0 G.xs G.ys G.S.1 1 a b)) 10 (by
    intro f i s hi ⟨hk, hw⟩
    rw [l_X6_laysBack_2.eq_2, if_pos (ten_in hi)]
    obtain ⟨s2, ⟨k2, w2, v2⟩, e2⟩ := yl1 (l_X6_laysBack_10 (fun (σ16 : MM) => l_X6_laysBack_2 (fun (σ17 : MM) => l_X6_laysBack_94 (fun (σ40 : MM) => some σ40) F 85 F 0 σ17) F 85 f ((nI i + 1)) σ16) F 85 (nI i)) (fun (σ16 : MM) => l_X6_laysBack_2 (fun (σ17 : MM) => l_X6_laysBack_94 (fun (σ40 : MM) => some σ40) F 85 F 0 σ17) F 85 f ((nI i + 1)) σ16) (fun j s' => kj rB σ s' ∧ (∀ a, a < i → ∀ b, b < 10 → mI s' 115 (10 * a + b) = fN 1000000 (way0 G.xs G.ys G.S.1 0 a b) ∧ mI s' 116 (10 * a + b) = fN 1000000 (way0 G.xs G.ys G.S.1 1 a b)) ∧ ∀ b, b < j → mI s' 115 (10 * i + b) = fN 1000000 (way0 G.xs G.ys G.S.1 0 i b) ∧ mI s' 116 (10 * i + b) = fN 1000000 (way0 G.xs G.ys G.S.1 1 i b)) 10 (by
      intro g j s' hj ⟨k2, w2, v2⟩
      have hs := h.s k2 rB_rSM
      have ls := hs.l
      have h99 := h9 i hi j hj
      have put : ∀ v u : Int32, v = fN 1000000 (way0 G.xs G.ys G.S.1 0 i j) → u = fN 1000000 (way0 G.xs G.ys G.S.1 1 i j) → kj rB σ (wI (wI s' 115 (10 * i + j) v) 116 (10 * i + j) u) ∧ (∀ a, a < i → ∀ b, b < 10 → mI (wI (wI s' 115 (10 * i + j) v) 116 (10 * i + j) u) 115 (10 * a + b) = fN 1000000 (way0 G.xs G.ys G.S.1 0 a b) ∧ mI (wI (wI s' 115 (10 * i + j) v) 116 (10 * i + j) u) 116 (10 * a + b) = fN 1000000 (way0 G.xs G.ys G.S.1 1 a b)) ∧ ∀ b, b < j + 1 → mI (wI (wI s' 115 (10 * i + j) v) 116 (10 * i + j) u) 115 (10 * i + b) = fN 1000000 (way0 G.xs G.ys G.S.1 0 i b) ∧ mI (wI (wI s' 115 (10 * i + j) v) 116 (10 * i + j) u) 116 (10 * i + b) = fN 1000000 (way0 G.xs G.ys G.S.1 1 i b) := by
        intro v u hv hu
        have e5 : ∀ y, mI (wI (wI s' 115 (10 * i + j) v) 116 (10 * i + j) u) 115 y = if y = 10 * i + j then v else mI s' 115 y := fun y => by
          rw [mI_wn (by decide)]
          by_cases c : y = 10 * i + j
          · rw [if_pos c, c, mI_ws]
          · rw [if_neg c, mI_wy c]
        have e6 : ∀ y, mI (wI (wI s' 115 (10 * i + j) v) 116 (10 * i + j) u) 116 y = if y = 10 * i + j then u else mI s' 116 y := fun y => by
          by_cases c : y = 10 * i + j
          · rw [if_pos c, c, mI_ws]
          · rw [if_neg c, mI_wy c, mI_wn (by decide)]
        refine ⟨k2.trans ((kj.w (Or.inl rfl)).trans (kj.w (Or.inr rfl))), fun a ha b hb => ?_, fun b hb => ?_⟩
        · rw [e5, e6, if_neg (by omega), if_neg (by omega)]; exact w2 a ha b hb
        · by_cases c : b = j
          · subst c; rw [e5, e6, if_pos rfl, if_pos rfl]; exact ⟨hv, hu⟩
          · rw [e5, e6, if_neg (by omega), if_neg (by omega)]; exact v2 b (by omega)
      have wb := wayS_b hG.2.1 hi hj
      have ls2 : ∀ v, lay (wI s' 115 (10 * i + j) v) := fun v => ls
      have Es : ∀ v, ME (wI s' 115 (10 * i + j) v) G.t G.xs G.ys := fun v => hs.1.2.2.keep (by rw [mI_wn (by decide)]) (mI_wn (by decide)) (mI_wn (by decide))
      rw [l_X6_laysBack_10.eq_2, if_pos (ten_in hj), e_X6_debtOf ls hs.2.1.1 hi hj, bq_some]
      dsimp only [jn]
      rw [ten_ab]
      by_cases c : G.S.1 i j = 0
      · rw [c, if_neg (show ¬ 0 < nI 0 by decide), b52 ls, Option.bind_some, if_pos rfl, bS ls A1 (by omega), Option.bind_some, b53 (ls2 _), Option.bind_some, if_pos rfl, bS (ls2 _) A2 (by omega), Option.bind_some, nI_1 j]
        exact ⟨_, put 1000000 1000000 (by rw [w0 _ _ _ hi hj, if_pos c]; rfl) (by rw [w0 _ _ _ hi hj, if_pos c]; rfl), rfl⟩
      · rw [if_pos (show 0 < nI (G.S.1 i j) from nI_lt (a := 0) (by omega) (by omega)), b52 ls, Option.bind_some, if_neg (by decide), bS ls A1 (by omega), Option.bind_some, b53 (ls2 _), Option.bind_some, if_neg (by decide), e_wayM (ls2 _) (Es _) hi hj, bq_some, bS (ls2 _) A2 (by omega), Option.bind_some, nI_1 j]
        exact ⟨_, put 1 (nI (wayS G.xs G.ys i j)) (by rw [w0 _ _ _ hi hj, if_neg c]; rfl) (by rw [w0 _ _ _ hi hj, if_neg c, if_neg (by decide)]; unfold fN; rw [if_neg (by omega)]), rfl⟩) (by
      intro g s' _
      rw [l_X6_laysBack_10.eq_2, if_neg ten_no]) (f := F) (by omega) ⟨hk, hw, fun b hb => absurd hb (Nat.not_lt_zero b)⟩
    refine ⟨s2, ⟨k2, fun a ha b hb => ?_⟩, ?_⟩
    · by_cases c : a = i
      · subst c; exact v2 b hb
      · exact w2 a (by omega) b hb
    · rw [← nI_1]; exact e2) (by
    intro f s _
    rw [l_X6_laysBack_2.eq_2, if_neg ten_no]) (f := F) (by omega) ⟨kj.refl, fun a ha => absurd ha (Nat.not_lt_zero a)⟩
  rw [e1]
  (try dsimp only)
  have le1 := way0_le (xs := G.xs) (ys := G.ys) (d := G.S.1) (hr := 0) hG.2.1
  have le2 := way0_le (xs := G.xs) (ys := G.ys) (d := G.S.1) (hr := 1) hG.2.1
  obtain ⟨w, hwe⟩ : ∃ w, way0 G.xs G.ys G.S.1 0 = w := ⟨_, rfl⟩
  obtain ⟨u, hue⟩ : ∃ u, way0 G.xs G.ys G.S.1 1 = u := ⟨_, rfl⟩
  rw [hwe] at w1 le1 ⊢
  rw [hue] at w1 le2 ⊢
  obtain ⟨s9, ⟨k9, w9, u9⟩, e9⟩ := yl1 (l_X6_laysBack_94 (fun (σ40 : MM) => some σ40) F 85) (fun (σ40 : MM) => some σ40) (fun k s => kj rB σ s ∧ hasB s 115 (fwK k w) ∧ hasB s 116 (fwK k u)) 10 (by
    intro f k s hk ⟨k2, w2, u2⟩
    rw [l_X6_laysBack_94.eq_2, if_pos (ten_in hk)]
    obtain ⟨s3, ⟨k3, w3, u3⟩, e3⟩ := yl1 (l_X6_laysBack_102 (fun (σ39 : MM) => l_X6_laysBack_94 (fun (σ40 : MM) => some σ40) F 85 f ((nI k + 1)) σ39) F 85 (nI k)) (fun (σ39 : MM) => l_X6_laysBack_94 (fun (σ40 : MM) => some σ40) F 85 f ((nI k + 1)) σ39) (fun a s => kj rB σ s ∧ hasB s 115 (fwA k a (fwK k w)) ∧ hasB s 116 (fwA k a (fwK k u))) 10 (by
      intro g a s ha ⟨k3, w3, u3⟩
      rw [l_X6_laysBack_102.eq_2, if_pos (ten_in ha)]
      obtain ⟨s4, ⟨k4, w4, u4⟩, e4⟩ := yl1 (l_X6_laysBack_110 (fun (σ38 : MM) => l_X6_laysBack_102 (fun (σ39 : MM) => l_X6_laysBack_94 (fun (σ40 : MM) => some σ40) F 85 f ((nI k + 1)) σ39) F 85 (nI k) g ((nI a + 1)) σ38) F 85 (nI k) (nI a)) (fun (σ38 : MM) => l_X6_laysBack_102 (fun (σ39 : MM) => l_X6_laysBack_94 (fun (σ40 : MM) => some σ40) F 85 f ((nI k + 1)) σ39) F 85 (nI k) g ((nI a + 1)) σ38) (fun b s => kj rB σ s ∧ hasB s 115 (fwB k a b (fwA k a (fwK k w))) ∧ hasB s 116 (fwB k a b (fwA k a (fwK k u)))) 10 (by
        intro e b s hb ⟨k4, w4, u4⟩
        have ls := k4.ly l
        have bd := fwK_I (a := a) (b := b) le1 hk
        have bd2 := fwK_I (a := a) (b := b) le2 hk
        have g1 : ∀ x y, x < 10 → y < 10 → aI s 115 20 (nI (10 * x + y)) = some (fN 1000000 (fwB k a b (fwA k a (fwK k w)) x y)) := fun x y hx hy => by rw [bG ls A1 (by omega), w4 x hx y hy]
        obtain ⟨s', hs'⟩ : ∃ s', s' = wI s 115 (10 * a + b) (fN 1000000 (comb (fwB k a b (fwA k a (fwK k w)) a b) (fwB k a b (fwA k a (fwK k w)) a k) (fwB k a b (fwA k a (fwK k w)) k b))) := ⟨_, rfl⟩
        have ls' : lay s' := by rw [hs']; exact ls
        have u4' : hasB s' 116 (fwB k a b (fwA k a (fwK k u))) := by rw [hs']; exact hasB_o (by decide) u4
        have w4' : hasB s' 115 (updW (fwB k a b (fwA k a (fwK k w))) a b (comb (fwB k a b (fwA k a (fwK k w)) a b) (fwB k a b (fwA k a (fwK k w)) a k) (fwB k a b (fwA k a (fwK k w)) k b))) := by rw [hs']; exact hasB_put ha hb w4
        have g2 : ∀ x y, x < 10 → y < 10 → aI s' 116 20 (nI (10 * x + y)) = some (fN 1000000 (fwB k a b (fwA k a (fwK k u)) x y)) := fun x y hx hy => by rw [bG ls' A2 (by omega), u4' x hx y hy]
        rw [l_X6_laysBack_110.eq_2, if_pos (ten_in hb)]
        simp only [ten_ab, b52 ls, Option.bind_some, g1 a b ha hb, g1 a k ha hk, g1 k b hk hb]
        rw [fN_combM (by decide) (by decide) (bd _ _) (bd _ _) (bd _ _), bq_some, bS ls A1 (by omega), Option.bind_some, ← hs']
        simp only [b53 ls', Option.bind_some, g2 a b ha hb, g2 a k ha hk, g2 k b hk hb]
        rw [fN_combM (by decide) (by decide) (bd2 _ _) (bd2 _ _) (bd2 _ _), bq_some, bS ls' A2 (by omega), Option.bind_some, nI_1 b]
        refine ⟨_, ⟨(k4.trans (by rw [hs']; exact kj.w (Or.inl rfl))).trans (kj.w (Or.inr rfl)), ?_, ?_⟩, rfl⟩
        · rw [fwB.eq_2]; exact hasB_o (by decide) w4'
        · rw [fwB.eq_2]; exact hasB_put ha hb u4') (by
        intro e s _
        rw [l_X6_laysBack_110.eq_2, if_neg ten_no]) (f := F) (by omega) ⟨k3, by rw [fwB.eq_1]; exact w3, by rw [fwB.eq_1]; exact u3⟩
      exact ⟨s4, ⟨k4, by rw [fwA_s]; exact w4, by rw [fwA_s]; exact u4⟩, e4.trans (by rw [nI_1 a])⟩) (by
      intro g s _
      rw [l_X6_laysBack_102.eq_2, if_neg ten_no]) (f := F) (by omega) ⟨k2, by rw [fwA.eq_1]; exact w2, by rw [fwA.eq_1]; exact u2⟩
    exact ⟨s3, ⟨k3, by rw [fwK_s]; exact w3, by rw [fwK_s]; exact u3⟩, e3.trans (by rw [nI_1 k])⟩) (by
    intro f s _
    rw [l_X6_laysBack_94.eq_2, if_neg ten_no]) (f := F) (by omega) ⟨k1, by rw [fwK.eq_1]; exact fun a ha b hb => (w1 a ha b hb).1, by rw [fwK.eq_1]; exact fun a ha b hb => (w1 a ha b hb).2⟩
  exact ⟨s9, e9, k9, w9, u9⟩
theorem call_back (hG : GW B G) (hF : 100000 ≤ F) (a w : Int32) : Call B G (fun σ => g_X0_back F σ 1 a w) (fun τ => g_X6_back F τ 85 a w) := by
  unfold g_X0_back g_X6_back
  rcases told_is (x := a) hG with ⟨p, hp, tp, rfl⟩ | ⟨n1, n2⟩
  · rcases in_is (x := w) (n := 2) (by decide) (by decide) with ⟨k, hk, rfl⟩ | ⟨n1, n2⟩
    · have bd : fwK 10 (way0 G.xs G.ys G.S.1 k) p p ≤ 18432 := fwK_le (way0_le hG.2.1) 10 p p
      have ans : ∀ N, 40000 ≤ N → N ≤ 268435456 → ∀ (σ : MM), (if fN N (fwK 10 (way0 G.xs G.ys G.S.1 k) p p) < nI N then some (fN N (fwK 10 (way0 G.xs G.ys G.S.1 k) p p), σ) else some ((-2 : Int32), σ)) = some (if fwK 10 (way0 G.xs G.ys G.S.1 k) p p = 0 then (-2 : Int32) else nI (fwK 10 (way0 G.xs G.ys G.S.1 k) p p), σ) := by
        intro N h1 h2 σ
        unfold fN
        by_cases c : fwK 10 (way0 G.xs G.ys G.S.1 k) p p = 0
        · rw [if_pos c, if_pos c, if_neg (nI_nlt (Nat.le_refl N) (by omega))]
        · rw [if_neg c, if_neg c, if_pos (nI_lt (by omega) (by omega))]
      refine call_same hG (if fwK 10 (way0 G.xs G.ys G.S.1 k) p p = 0 then (-2 : Int32) else nI (fwK 10 (way0 G.xs G.ys G.S.1 k) p p)) (fun σ h => ?_) (fun τ h => ?_)
      · obtain ⟨s, e, k1, hw⟩ := e_X0_laysWays (F := F) hG h (hr := k) (by omega) hF
        have ls := k1.ly h.l
        refine ⟨s, ?_, k1.mono rW_rSC⟩
        have hv : aI s (70 + p) 20 (nI p) = some (fN 268435456 (fwK 10 (way0 G.xs G.ys G.S.1 k) p p)) := by rw [wG ls hp hp, hw p hp p hp]
        have tail : ((g_X0_laysWays F σ 1 (nI k)).bind fun σ8 => (gP σ8 1 0 22 16).bind fun p9 => (aP σ8 p9 22 (nI p)).bind fun p10 => (aI σ8 p10 20 (nI p)).bind fun v11 => if v11 < 268435456 then ((gP σ8 1 0 22 16).bind fun p12 => (aP σ8 p12 22 (nI p)).bind fun p13 => (aI σ8 p13 20 (nI p)).bind fun v14 => some (v14, σ8)) else (some ((-2), σ8))) = some (if fwK 10 (way0 G.xs G.ys G.S.1 k) p p = 0 then (-2 : Int32) else nI (fwK 10 (way0 G.xs G.ys G.S.1 k) p p), s) := by
          rw [e]
          simp only [Option.bind_some, wO ls, wR ls hp, hv]
          exact ans 268435456 (by decide) (by decide) s
        (try dsimp only)
        rw [if_pos (T1 h.l), told_yes h.l h.1.2.2 hp tp, bq_some, if_neg (by decide), show (2 : Int32) = nI 2 from rfl, in_yes hk (by decide), bq_some, if_neg (by decide)]
        dsimp only [jn]
        by_cases c : k = 1
        · rw [if_pos (by rw [c]; rfl)]
          rw [c] at tail ⊢
          exact tail
        · have c0 : k = 0 := by omega
          rw [if_neg (by rw [c0]; decide)]
          rw [c0] at tail ⊢
          exact tail
      · obtain ⟨s, e, k1, hw, hu⟩ := e_X6_laysBack (F := F) hG h hF
        have ls := k1.ly h.l
        refine ⟨s, ?_, k1.mono rB_rSM⟩
        have e11 : (11 : Int32) * nI p = nI (10 * p + p) := by rw [show (11 : Int32) = nI 11 from rfl, nI_mul]; congr 1; omega
        have hw' : aI s 115 20 (nI (10 * p + p)) = some (fN 1000000 (fwK 10 (way0 G.xs G.ys G.S.1 0) p p)) := by rw [bG ls (Or.inl rfl) (by omega), hw p hp p hp]
        have hu' : aI s 116 20 (nI (10 * p + p)) = some (fN 1000000 (fwK 10 (way0 G.xs G.ys G.S.1 1) p p)) := by rw [bG ls (Or.inr rfl) (by omega), hu p hp p hp]
        (try dsimp only)
        rw [if_pos (T85 h.l), person_yes h.l h.1.2.2 hp tp, bq_some, if_neg (by decide), show (1 : Int32) = nI 1 from rfl, inM_yes (by omega) (by decide), bq_some, if_neg (by decide), e, Option.bind_some]
        dsimp only [jn]
        rw [e11]
        by_cases c : k = 0
        · rw [if_pos (by rw [c]; rfl), b52 ls, Option.bind_some, hw', Option.bind_some]
          rw [c] at ans ⊢
          exact ans 1000000 (by decide) (by decide) s
        · have c1 : k = 1 := by omega
          rw [if_neg (by rw [c1]; decide), b53 ls, Option.bind_some, hu', Option.bind_some]
          rw [c1] at ans ⊢
          exact ans 1000000 (by decide) (by decide) s
    · refine call_look hG (-1) (fun σ h => ?_) (fun τ h => ?_)
      · (try dsimp only)
        rw [if_pos (T1 h.l), told_yes h.l h.1.2.2 hp tp, bq_some, if_neg (by decide), show g_X0_in F σ w 2 = _ from n1 F σ, bq_some, if_pos rfl]
      · (try dsimp only)
        rw [if_pos (T85 h.l), person_yes h.l h.1.2.2 hp tp, bq_some, if_neg (by decide), show g_X6_in F τ w 0 1 = _ from n2 F τ, bq_some, if_pos rfl]
  · refine call_look hG (-1) (fun σ h => ?_) (fun τ h => ?_)
    · (try dsimp only)
      rw [if_pos (T1 h.l), n1 F σ h, bq_some, if_pos rfl]
    · (try dsimp only)
      rw [if_pos (T85 h.l), n2 F τ h, bq_some, if_pos rfl]
end BACK
