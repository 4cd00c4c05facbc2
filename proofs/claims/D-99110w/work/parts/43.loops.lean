/-! LOOPS: L (fuel) (state); after N rounds the end E -/
theorem loopN {R S : Type} (L : Nat → S → Option R) (E : S → Option R) (J : Nat → S) (N : Nat) (hs : ∀ f i, i < N → L (f + 1) (J i) = L f (J (i + 1))) (he : ∀ f, L (f + 1) (J N) = E (J N)) : ∀ f, N < f → L f (J 0) = E (J N) := by
  have key : ∀ n i f, i + n = N → n < f → L f (J i) = E (J N) := by
    intro n
    induction n with
    | zero =>
      intro i f hi hf
      obtain ⟨g, rfl⟩ : ∃ g, f = g + 1 := ⟨f - 1, by omega⟩
      have : i = N := by omega
      subst this
      exact he g
    | succ n ih =>
      intro i f hi hf
      obtain ⟨g, rfl⟩ : ∃ g, f = g + 1 := ⟨f - 1, by omega⟩
      rw [hs g i (by omega)]
      exact ih (i + 1) g (by omega) (by omega)
  exact fun f hf => key N 0 f (by omega) hf
theorem loopR {R S : Type} (L : Nat → S → Option R) (E : S → Option R) (J : Nat → S → Prop) (N : Nat) (hs : ∀ f i s, i < N → J i s → ∃ s', J (i + 1) s' ∧ L (f + 1) s = L f s') (he : ∀ f s, J N s → L (f + 1) s = E s) : ∀ f s, N < f → J 0 s → ∃ s', J N s' ∧ L f s = E s' := by
  have key : ∀ n i f s, i + n = N → n < f → J i s → ∃ s', J N s' ∧ L f s = E s' := by
    intro n
    induction n with
    | zero =>
      intro i f s hi hf hJ
      obtain ⟨g, rfl⟩ : ∃ g, f = g + 1 := ⟨f - 1, by omega⟩
      have : i = N := by omega
      subst this
      exact ⟨s, hJ, he g s hJ⟩
    | succ n ih =>
      intro i f s hi hf hJ
      obtain ⟨g, rfl⟩ : ∃ g, f = g + 1 := ⟨f - 1, by omega⟩
      obtain ⟨s', h1, h2⟩ := hs g i s (by omega) hJ
      rw [h2]
      exact ih (i + 1) g s' (by omega) (by omega) h1
  exact fun f s hf hJ => key N 0 f s (by omega) hf hJ
/-- with another way out, of which Q tells -/
theorem loopX {R S : Type} (L : Nat → S → Option R) (E : S → Option R) (J : Nat → S → Prop) (Q : Option R → Prop) (N : Nat) (hs : ∀ f i s, i < N → J i s → (∃ s', J (i + 1) s' ∧ L (f + 1) s = L f s') ∨ Q (L (f + 1) s)) (he : ∀ f s, J N s → L (f + 1) s = E s) : ∀ f s, N < f → J 0 s → (∃ s', J N s' ∧ L f s = E s') ∨ Q (L f s) := by
  have key : ∀ n i f s, i + n = N → n < f → J i s → (∃ s', J N s' ∧ L f s = E s') ∨ Q (L f s) := by
    intro n
    induction n with
    | zero =>
      intro i f s hi hf hJ
      obtain ⟨g, rfl⟩ : ∃ g, f = g + 1 := ⟨f - 1, by omega⟩
      have : i = N := by omega
      subst this
      exact Or.inl ⟨s, hJ, he g s hJ⟩
    | succ n ih =>
      intro i f s hi hf hJ
      obtain ⟨g, rfl⟩ : ∃ g, f = g + 1 := ⟨f - 1, by omega⟩
      rcases hs g i s (by omega) hJ with ⟨s', h1, h2⟩ | h
      · rw [h2]
        exact ih (i + 1) g s' (by omega) (by omega) h1
      · exact Or.inr h
  exact fun f s hf hJ => key N 0 f s (by omega) hf hJ
/-- a counter and the memory -/
theorem yl1 {R : Type} (L : Nat → Int32 → MM → Option R) (E : MM → Option R) (J : Nat → MM → Prop) (N : Nat) (hs : ∀ f i σ, i < N → J i σ → ∃ σ', J (i + 1) σ' ∧ L (f + 1) (nI i) σ = L f (nI (i + 1)) σ') (he : ∀ f σ, J N σ → L (f + 1) (nI N) σ = E σ) {f : Nat} {σ : MM} (hf : N < f) (h0 : J 0 σ) : ∃ σ', J N σ' ∧ L f 0 σ = E σ' := by
  obtain ⟨s', h, e⟩ := loopR (fun f (s : Nat × MM) => L f (nI s.1) s.2) (fun s => E s.2) (fun i s => s.1 = i ∧ J i s.2) N (fun f i s hi h => by
    obtain ⟨σ', h1, h2⟩ := hs f i s.2 hi h.2
    refine ⟨(i + 1, σ'), ⟨rfl, h1⟩, ?_⟩
    (try dsimp only)
    rw [h.1]
    exact h2) (fun f s h => by
    (try dsimp only)
    rw [h.1]
    exact he f s.2 h.2) f (0, σ) hf ⟨rfl, h0⟩
  exact ⟨s'.2, h.2, e⟩
/-- the same with a way out -/
theorem yl1X {R : Type} (L : Nat → Int32 → MM → Option R) (E : MM → Option R) (J : Nat → MM → Prop) (Q : Option R → Prop) (N : Nat) (hs : ∀ f i σ, i < N → J i σ → (∃ σ', J (i + 1) σ' ∧ L (f + 1) (nI i) σ = L f (nI (i + 1)) σ') ∨ Q (L (f + 1) (nI i) σ)) (he : ∀ f σ, J N σ → L (f + 1) (nI N) σ = E σ) {f : Nat} {σ : MM} (hf : N < f) (h0 : J 0 σ) : (∃ σ', J N σ' ∧ L f 0 σ = E σ') ∨ Q (L f 0 σ) := by
  rcases loopX (fun f (s : Nat × MM) => L f (nI s.1) s.2) (fun s => E s.2) (fun i s => s.1 = i ∧ J i s.2) Q N (fun f i s hi h => by
    rcases hs f i s.2 hi h.2 with ⟨σ', h1, h2⟩ | h3
    · refine Or.inl ⟨(i + 1, σ'), ⟨rfl, h1⟩, ?_⟩
      (try dsimp only)
      rw [h.1]
      exact h2
    · refine Or.inr ?_
      (try dsimp only)
      rw [h.1]
      exact h3) (fun f s h => by
    (try dsimp only)
    rw [h.1]
    exact he f s.2 h.2) f (0, σ) hf ⟨rfl, h0⟩ with ⟨s', h, e⟩ | h
  · exact Or.inl ⟨s'.2, h.2, e⟩
  · exact Or.inr h
/-- something else, a counter, the memory -/
theorem yl2 {R α : Type} (L : Nat → α → Int32 → MM → Option R) (E : α → MM → Option R) (J : Nat → α → MM → Prop) (N : Nat) (hs : ∀ f i v σ, i < N → J i v σ → ∃ v' σ', J (i + 1) v' σ' ∧ L (f + 1) v (nI i) σ = L f v' (nI (i + 1)) σ') (he : ∀ f v σ, J N v σ → L (f + 1) v (nI N) σ = E v σ) {f : Nat} {v : α} {σ : MM} (hf : N < f) (h0 : J 0 v σ) : ∃ v' σ', J N v' σ' ∧ L f v 0 σ = E v' σ' := by
  obtain ⟨s', h, e⟩ := loopR (fun f (s : Nat × α × MM) => L f s.2.1 (nI s.1) s.2.2) (fun s => E s.2.1 s.2.2) (fun i s => s.1 = i ∧ J i s.2.1 s.2.2) N (fun f i s hi h => by
    obtain ⟨v', σ', h1, h2⟩ := hs f i s.2.1 s.2.2 hi h.2
    refine ⟨(i + 1, v', σ'), ⟨rfl, h1⟩, ?_⟩
    (try dsimp only)
    rw [h.1]
    exact h2) (fun f s h => by
    (try dsimp only)
    rw [h.1]
    exact he f s.2.1 s.2.2 h.2) f (0, v, σ) hf ⟨rfl, h0⟩
  exact ⟨s'.2.1, s'.2.2, h.2, e⟩
/-- the memory stays: a value that each round makes new -/
theorem ylv {R α : Type} (L : Nat → α → Int32 → MM → Option R) (E : α → MM → Option R) (v : Nat → α) (σ : MM) (N : Nat) (hs : ∀ f i, i < N → L (f + 1) (v i) (nI i) σ = L f (v (i + 1)) (nI (i + 1)) σ) (he : ∀ f, L (f + 1) (v N) (nI N) σ = E (v N) σ) {f : Nat} (hf : N < f) : L f (v 0) 0 σ = E (v N) σ :=
  loopN (fun f (i : Nat) => L f (v i) (nI i) σ) (fun i => E (v i) σ) (fun i => i) N hs he f hf
theorem ten_no : ¬ nI 10 < 10 := by decide
theorem ten_in {i : Nat} (h : i < 10) : nI i < 10 := nI_lt (b := 10) h (by decide)
/-- sums -/
def sm (f : Nat → Nat) : Nat → Nat
  | 0 => 0
  | n + 1 => sm f n + f n
theorem sm_le {f : Nat → Nat} {M : Nat} : ∀ n, (∀ k, k < n → f k ≤ M) → sm f n ≤ n * M
  | 0, _ => Nat.zero_le _
  | n + 1, h => by
    have h1 := sm_le n (fun k hk => h k (by omega))
    have h2 := h n (by omega)
    show sm f n + f n ≤ (n + 1) * M
    rw [Nat.succ_mul]
    omega
theorem sm_congr {f g : Nat → Nat} : ∀ n, (∀ k, k < n → f k = g k) → sm f n = sm g n
  | 0, _ => rfl
  | n + 1, h => by
    show sm f n + f n = sm g n + g n
    rw [sm_congr n (fun k hk => h k (by omega)), h n (by omega)]
/-- a Debts object and its rows -/
def isB (σ : MM) (Q : Nat) : Prop := mT σ Q = (3, 1) ∧ mP σ Q 0 = Q + 1 ∧ mT σ (Q + 1) = (22, 10) ∧ ∀ k, k < 10 → mP σ (Q + 1) k = Q + 2 + k ∧ mT σ (Q + 2 + k) = (20, 10)
def hasD (σ : MM) (Q : Nat) (d : Nat → Nat → Nat) : Prop := ∀ a, a < 10 → ∀ b, b < 10 → mI σ (Q + 2 + a) b = nI (d a b)
def owesS (d : Nat → Nat → Nat) (a : Nat) : Nat := sm (fun b => d a b) 10
def getsS (d : Nat → Nat → Nat) (b : Nat) : Nat := sm (fun a => d a b) 10
def allS (d : Nat → Nat → Nat) : Nat := sm (fun a => owesS d a) 10
theorem isB_wI {σ : MM} {Q a j : Nat} {v : Int32} (h : isB σ Q) : isB (wI σ a j v) Q := h
theorem lay_isB5 {σ : MM} (h : lay σ) : isB σ 6 := ⟨T6 h, P6_0 h, T7 h, fun k hk => ⟨G7 h hk, R7 h hk⟩⟩
theorem lay_isB20 {σ : MM} (h : lay σ) : isB σ 21 := ⟨T21 h, P21_0 h, T22 h, fun k hk => ⟨G22 h hk, R22 h hk⟩⟩
theorem lay_isB35 {σ : MM} (h : lay σ) : isB σ 36 := ⟨T36 h, P36_0 h, T37 h, fun k hk => ⟨G37 h hk, R37 h hk⟩⟩
theorem lay_isB55 {σ : MM} (h : lay σ) : isB σ 55 := ⟨T55 h, P55_0 h, T56 h, fun k hk => ⟨G56 h hk, R56 h hk⟩⟩
/-- only ints of the cells of S have changed -/
def kp (S : Nat → Prop) (σ σ' : MM) : Prop := σ'.2 = σ.2 ∧ ∀ x, ¬ S x → mI σ' x = mI σ x
theorem kp.refl {S : Nat → Prop} {σ : MM} : kp S σ σ := ⟨rfl, fun _ _ => rfl⟩
theorem kp.trans {S : Nat → Prop} {σ σ1 σ2 : MM} (h : kp S σ σ1) (g : kp S σ1 σ2) : kp S σ σ2 := ⟨g.1.trans h.1, fun x hx => (g.2 x hx).trans (h.2 x hx)⟩
theorem kp.mono {S S' : Nat → Prop} {σ σ1 : MM} (h : kp S σ σ1) (hS : ∀ x, S x → S' x) : kp S' σ σ1 := ⟨h.1, fun x hx => h.2 x (fun q => hx (hS x q))⟩
theorem kp.w {S : Nat → Prop} {σ : MM} {a j : Nat} {v : Int32} (h : S a) : kp S σ (wI σ a j v) := ⟨rfl, fun x hx => mI_wn (fun e => hx (e ▸ h))⟩
theorem kp.T {S : Nat → Prop} {σ σ1 : MM} (h : kp S σ σ1) : mT σ1 = mT σ := by unfold mT; rw [h.1]
theorem kp.P {S : Nat → Prop} {σ σ1 : MM} (h : kp S σ σ1) : mP σ1 = mP σ := by unfold mP; rw [h.1]
theorem kp.N {S : Nat → Prop} {σ σ1 : MM} (h : kp S σ σ1) : mN σ1 = mN σ := by unfold mN; rw [h.1]
theorem kp.ly {S : Nat → Prop} {σ σ1 : MM} (h : kp S σ σ1) (l : lay σ) : lay σ1 := by
  unfold lay at l ⊢
  rw [h.T, h.P, h.N]
  exact l
theorem kp.iB {S : Nat → Prop} {σ σ1 : MM} {Q : Nat} (h : kp S σ σ1) (l : isB σ Q) : isB σ1 Q := by
  unfold isB at l ⊢
  rw [h.T, h.P]
  exact l
theorem kp.hD {S : Nat → Prop} {σ σ1 : MM} {Q : Nat} {d : Nat → Nat → Nat} (h : kp S σ σ1) (hS : ∀ a, a < 10 → ¬ S (Q + 2 + a)) (l : hasD σ Q d) : hasD σ1 Q d := by
  intro a ha b hb
  rw [h.2 _ (hS a ha)]
  exact l a ha b hb
section DEBTS
variable {σ : MM} {Q F a b : Nat} {d : Nat → Nat → Nat}
theorem e_X4_owes (hB : isB σ Q) (hd : hasD σ Q d) (ha : a < 10) (hF : 10 < F) : g_X4_owes F σ Q (nI a) = some (nI (owesS d a), σ) := by
  obtain ⟨t1, p1, t2, hr⟩ := hB
  unfold g_X4_owes
  rw [if_pos t1]
  refine loopN (fun f s => l_X4_owes_4 (fun (r2_5 : Int32) (σ4 : MM) => some (r2_5, σ4)) F Q (nI a) f s.1 s.2.1 s.2.2) (fun s => some (s.1, s.2.2)) (fun i => (nI (sm (fun b => d a b) i), nI i, σ)) 10 (fun f i hi => ?_) (fun f => ?_) F hF
  · have c : nI i < 10 := nI_lt (b := 10) hi (by decide)
    simp only [l_X4_owes_4, c, if_true, gI_T, gP_T, pI_T, pP_T, pZ_T, aI_T, aP_T, sI_T, sB_T, Option.bind_some, bq_some, jn_eq, nw_eq, mT_wI, mP_wI, mN_wI, Nat.reduceLT, t1, p1, t2, ha, (hr a ha).1, (hr a ha).2, hi, hd a ha i hi, nI_add, nI_1]
    rfl
  · have c : ¬ nI 10 < 10 := by decide
    simp only [l_X4_owes_4, c, if_false]
theorem e_X4_gets (hB : isB σ Q) (hd : hasD σ Q d) (hb : b < 10) (hF : 10 < F) : g_X4_gets F σ Q (nI b) = some (nI (getsS d b), σ) := by
  obtain ⟨t1, p1, t2, hr⟩ := hB
  unfold g_X4_gets
  rw [if_pos t1]
  refine loopN (fun f s => l_X4_gets_4 (fun (r2_5 : Int32) (σ4 : MM) => some (r2_5, σ4)) F Q (nI b) f s.1 s.2.1 s.2.2) (fun s => some (s.1, s.2.2)) (fun i => (nI (sm (fun a => d a b) i), nI i, σ)) 10 (fun f i hi => ?_) (fun f => ?_) F hF
  · have c : nI i < 10 := nI_lt (b := 10) hi (by decide)
    simp only [l_X4_gets_4, c, if_true, gI_T, gP_T, pI_T, pP_T, pZ_T, aI_T, aP_T, sI_T, sB_T, Option.bind_some, bq_some, jn_eq, nw_eq, mT_wI, mP_wI, mN_wI, Nat.reduceLT, t1, p1, t2, hb, (hr i hi).1, (hr i hi).2, hi, hd i hi b hb, nI_add, nI_1]
    rfl
  · have c : ¬ nI 10 < 10 := by decide
    simp only [l_X4_gets_4, c, if_false]
theorem e_X4_all (hB : isB σ Q) (hd : hasD σ Q d) (hF : 10 < F) : g_X4_all F σ Q = some (nI (allS d), σ) := by
  unfold g_X4_all
  rw [if_pos hB.1]
  refine loopN (fun f s => l_X4_all_4 (fun (r2_5 : Int32) (σ4 : MM) => some (r2_5, σ4)) F Q f s.1 s.2.1 s.2.2) (fun s => some (s.1, s.2.2)) (fun i => (nI (sm (fun a => owesS d a) i), nI i, σ)) 10 (fun f i hi => ?_) (fun f => ?_) F hF
  · have c : nI i < 10 := nI_lt (b := 10) hi (by decide)
    simp only [l_X4_all_4, c, if_true, gI_T, gP_T, pI_T, pP_T, pZ_T, aI_T, aP_T, sI_T, sB_T, Option.bind_some, bq_some, jn_eq, nw_eq, mT_wI, mP_wI, mN_wI, Nat.reduceLT, e_X4_owes hB hd hi hF, nI_add, nI_1]
    rfl
  · have c : ¬ nI 10 < 10 := by decide
    simp only [l_X4_all_4, c, if_false]
/-- copied -/
theorem e_X4_takes {Q2 : Nat} (hB : isB σ Q) (hB2 : isB σ Q2) (hd : hasD σ Q2 d) (hQ : Q + 10 ≤ Q2 ∨ Q2 + 10 ≤ Q) (hF : 10 < F) : ∃ σ', g_X4_takes F σ Q Q2 = some (Q, σ') ∧ kp (fun x => Q + 2 ≤ x ∧ x < Q + 12) σ σ' ∧ hasD σ' Q d := by
  unfold g_X4_takes
  rw [if_pos hB.1]
  obtain ⟨σ', ⟨hk, hD⟩, he⟩ := yl1 (l_X4_takes_2 (fun (σ8 : MM) => some (Q, σ8)) F Q Q2) (fun σ => some (Q, σ)) (fun i s => kp (fun x => Q + 2 ≤ x ∧ x < Q + 12) σ s ∧ ∀ a, a < i → ∀ b, b < 10 → mI s (Q + 2 + a) b = nI (d a b)) 10 (by
    intro f i s2 hi ⟨hk, hD⟩
    simp only [l_X4_takes_2, ten_in hi, if_true]
    obtain ⟨s', ⟨hk', hD1, hD2⟩, he⟩ := yl1 (l_X4_takes_10 (fun (σ7 : MM) => l_X4_takes_2 (fun (σ8 : MM) => some (Q, σ8)) F Q Q2 f ((nI i + 1)) σ7) F Q Q2 (nI i)) (fun s => l_X4_takes_2 (fun (σ8 : MM) => some (Q, σ8)) F Q Q2 f ((nI i + 1)) s) (fun k s => kp (fun x => Q + 2 ≤ x ∧ x < Q + 12) σ s ∧ (∀ a, a < i → ∀ b, b < 10 → mI s (Q + 2 + a) b = nI (d a b)) ∧ ∀ b, b < k → mI s (Q + 2 + i) b = nI (d i b)) 10 (by
      intro g k s3 hk9 ⟨hkk, hD1, hD2⟩
      obtain ⟨t1, p1, t2, hr⟩ := hkk.iB hB
      obtain ⟨u1, q1, u2, hr2⟩ := hkk.iB hB2
      have hdd := hkk.hD (fun a ha => by omega) hd
      refine ⟨wI s3 (Q + 2 + i) k (nI (d i k)), ⟨hkk.trans (kp.w ⟨by omega, by omega⟩), fun a ha b hb => ?_, fun b hb => ?_⟩, ?_⟩
      · rw [mI_wn (by omega)]
        exact hD1 a ha b hb
      · by_cases h : b = k
        · subst h; exact mI_ws
        · rw [mI_wy h]
          exact hD2 b (by omega)
      · simp only [l_X4_takes_10, ten_in hk9, if_true, gI_T, gP_T, pI_T, pP_T, pZ_T, aI_T, aP_T, sI_T, sB_T, Option.bind_some, bq_some, jn_eq, nw_eq, mT_wI, mP_wI, mN_wI, Nat.reduceLT, t1, p1, t2, u1, q1, u2, hi, (hr i hi).1, (hr i hi).2, (hr2 i hi).1, (hr2 i hi).2, hk9, hdd i hi k hk9, nI_1]) (by
      intro g s3 _
      simp only [l_X4_takes_10, ten_no, if_false]) hF ⟨hk, hD, fun b hb => absurd hb (by omega)⟩
    refine ⟨s', ⟨hk', fun a ha b hb => ?_⟩, ?_⟩
    · by_cases h : a = i
      · subst h; exact hD2 b hb
      · exact hD1 a (by omega) b hb
    · rw [← nI_1]
      exact he) (by
    intro f s2 _
    simp only [l_X4_takes_2, ten_no, if_false]) hF ⟨kp.refl, fun a ha => absurd ha (by omega)⟩
  exact ⟨σ', he, hk, hD⟩
end DEBTS
