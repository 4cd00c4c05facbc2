/-! THE MODEL: row by row; the call -/
seal runE
theorem perm_ex {n : Nat} (hn : n ≤ 6) : ∃ c, c < n ^ n ∧ permP n c := by
  have h : n = 0 ∨ n = 1 ∨ n = 2 ∨ n = 3 ∨ n = 4 ∨ n = 5 ∨ n = 6 := by omega
  unfold permP dgt
  rcases h with h | h | h | h | h | h | h <;> subst h
  · exact ⟨0, by decide, by decide⟩
  · exact ⟨0, by decide, by decide⟩
  · exact ⟨1, by decide, by decide⟩
  · exact ⟨5, by decide, by decide⟩
  · exact ⟨27, by decide, by decide⟩
  · exact ⟨194, by decide, by decide⟩
  · exact ⟨1865, by decide, by decide⟩
theorem runE_nz {w : Nat → Nat → Nat} {n lo c : Nat} {s : ES} (hp : permP n c) : ∀ len, lo ≤ c → c < lo + len → (runE w n s lo len).1 ≠ 0
  | 0, h1, h2 => by omega
  | len + 1, h1, h2 => by
    rw [runE.eq_2]
    by_cases e : c = lo + len
    · unfold upE
      by_cases q : (runE w n s lo len).1 = 0
      · rw [if_pos ⟨permB_iff.mpr (by rw [← e]; exact hp), Or.inl q⟩]
        show cstS w n (lo + len) n + 1 ≠ 0
        omega
      · split
        · show cstS w n (lo + len) n + 1 ≠ 0
          omega
        · exact q
    · have ih := runE_nz (w := w) (s := s) (lo := lo) hp len h1 (by omega)
      unfold upE
      split
      · show cstS w n (lo + len) n + 1 ≠ 0
        omega
      · exact ih
section EVENM
variable {B F : Nat} {G : GG}
def rRw (x _y : Nat) : Prop := x = 119
theorem r56 {σ : MM} (l : lay σ) : gP σ 85 5 62 56 = some 119 := by rw [gP_T (T85 l), P85_56 l]
theorem rwG {σ : MM} {A k : Nat} (l : lay σ) (hA : A = 117 ∨ A = 118 ∨ A = 119 ∨ A = 120) (hk : k < 6) : aI σ A 20 (nI k) = some (mI σ A k) := by
  have h : mT σ A = (20, 6) := by rcases hA with e | e | e | e <;> subst e <;> first | exact T117 l | exact T118 l | exact T119 l | exact T120 l
  exact aI_T (by rw [h]) (by rw [h]; exact hk) (by rw [h]; decide)
theorem rwS {σ : MM} {A k : Nat} {v : Int32} (l : lay σ) (hA : A = 117 ∨ A = 118 ∨ A = 119 ∨ A = 120) (hk : k < 6) : sI σ A (nI k) v = some (wI σ A k v) := by
  have h : mT σ A = (20, 6) := by rcases hA with e | e | e | e <;> subst e <;> first | exact T117 l | exact T118 l | exact T119 l | exact T120 l
  exact sI_T (by rw [h]) (by rw [h]; exact hk) (by rw [h]; decide)
/-- a row is read: it is one of each, or not -/
theorem e_X6_readsRow {σ : MM} {n c : Nat} (l : lay σ) (hn : n ≤ 6) (hc : c < 100000) (hF : 100000 ≤ F) : ∃ σ', g_X6_readsRow F σ 85 (nI c) (nI n) = some (if permB n c = true then 1 else 0, σ') ∧ kj rRw σ σ' ∧ (permB n c = true → ∀ i, i < n → mI σ' 119 i = nI (dgt n c i)) := by
  unfold g_X6_readsRow
  rw [if_pos (T85 l)]
  have fin : ∀ (q : permP n c) t, kj rRw σ t → (∀ i, i < n → mI t 119 i = nI (dgt n c i)) → ∃ σ', some ((1 : Int32), t) = some (if permB n c = true then (1 : Int32) else 0, σ') ∧ kj rRw σ σ' ∧ (permB n c = true → ∀ i, i < n → mI σ' 119 i = nI (dgt n c i)) := fun q t k1 h1 => ⟨t, by rw [if_pos (permB_iff.mpr q)], k1, fun _ => h1⟩
  -- k still to read
  have key : ∀ k f t u, k ≤ n → k < f → kj rRw σ t → u < 64 → (∀ m, m < n → (u.testBit m = true ↔ ∃ i, k ≤ i ∧ i < n ∧ dgt n c i = m)) → (∀ i, k ≤ i → i < n → mI t 119 i = nI (dgt n c i)) → (∀ i, i < n → ∀ j, j < i → k ≤ j → dgt n c i ≠ dgt n c j) → ∃ σ', l_X6_readsRow_10 (fun (σ11 : MM) => some ((1 : Int32), σ11)) F 85 (nI n) f (nI (c / n ^ (n - k))) (nI u) (nI k - 1) t = some (if permB n c = true then (1 : Int32) else 0, σ') ∧ kj rRw σ σ' ∧ (permB n c = true → ∀ i, i < n → mI σ' 119 i = nI (dgt n c i)) := by
    intro k
    induction k with
    | zero =>
      intro f t u _ hf k1 hu hu2 h1 h2
      obtain ⟨f, rfl⟩ : ∃ g, f = g + 1 := ⟨f - 1, by omega⟩
      rw [l_X6_readsRow_10.eq_2, if_pos (show nI 0 - 1 < 0 by decide)]
      exact fin (fun i hi j hj => h2 i hi j hj (Nat.zero_le _)) t k1 (fun i hi => h1 i (Nat.zero_le _) hi)
    | succ k ih =>
      intro f t u hk hf k1 hu hu2 h1 h2
      obtain ⟨f, rfl⟩ : ∃ g, f = g + 1 := ⟨f - 1, by omega⟩
      have lt := k1.ly l
      have n0 : 0 < n := by omega
      have lef : c / n ^ (n - (k + 1)) < 2147483648 := Nat.lt_of_le_of_lt (Nat.div_le_self _ _) (by omega)
      have ed : c / n ^ (n - (k + 1)) % n = dgt n c k := by unfold dgt; rw [show n - (k + 1) = n - 1 - k by omega]
      have en : c / n ^ (n - (k + 1)) / n = c / n ^ (n - k) := by rw [Nat.div_div_eq_div_mul, ← Nat.pow_succ, show (n - (k + 1)).succ = n - k by omega]
      have dl : dgt n c k < n := Nat.mod_lt _ n0
      have l2 : lay (wI t 119 k (nI (dgt n c k))) := lt
      have k2 : kj rRw σ (wI t 119 k (nI (dgt n c k))) := k1.trans (kj.w rfl)
      rw [l_X6_readsRow_10.eq_2, nI_pred, if_neg (nI_pos (by omega)), r56 lt, Option.bind_some, rm_nI lef (by omega) n0, Option.bind_some, ed, rwS lt (by decide) (by omega), Option.bind_some, dv_nI lef (by omega) n0, Option.bind_some, en, r56 l2, Option.bind_some, rwG l2 (by decide) (by omega), Option.bind_some, mI_ws, e_hasM (by omega) (by omega), bq_some]
      by_cases cu : u.testBit (dgt n c k) = true
      · obtain ⟨i, i1, i2, i3⟩ := (hu2 _ dl).mp cu
        have np : ¬ permB n c = true := fun q => (permB_iff.mp q) i i2 k (by omega) i3
        rw [if_pos cu, if_neg (by decide)]
        exact ⟨_, by rw [if_neg np], k2, fun q => absurd q np⟩
      · rw [if_neg cu, if_pos rfl, r56 l2, Option.bind_some, rwG l2 (by decide) (by omega), Option.bind_some, mI_ws, bx_one (by omega), bx_or, show nI k + (-1) = nI k - 1 from (Int32.sub_eq_add_neg (nI k) 1).symm]
        refine ih f _ _ (by omega) (by omega) k2 (Nat.or_lt_two_pow (n := 6) hu (Nat.pow_lt_pow_right (by decide) (by omega))) (fun m hm => ?_) (fun i h3 h4 => ?_) (fun i hi j hj hkj => ?_)
        · rw [or_bit, hu2 m hm]
          constructor
          · rintro (⟨i, q1, q2, q3⟩ | q)
            · exact ⟨i, by omega, q2, q3⟩
            · exact ⟨k, Nat.le_refl _, by omega, q.symm⟩
          · rintro ⟨i, q1, q2, q3⟩
            by_cases e : i = k
            · subst e; exact Or.inr q3.symm
            · exact Or.inl ⟨i, by omega, q2, q3⟩
        · by_cases e : i = k
          · subst e; rw [mI_ws]
          · rw [mI_wy e]; exact h1 i (by omega) h4
        · by_cases e : j = k
          · subst e
            intro q
            exact cu ((hu2 _ dl).mpr ⟨i, by omega, hi, q⟩)
          · exact h2 i hi j hj (by omega)
  have := key n F σ 0 (Nat.le_refl _) (by omega) kj.refl (by decide) (fun m hm => ⟨fun q => by rw [Nat.zero_testBit] at q; exact Bool.noConfusion q, fun ⟨i, q1, q2, _⟩ => by omega⟩) (fun i h1 h2 => by omega) (fun i hi j hj hkj => by omega)
  rw [Nat.sub_self, Nat.pow_zero, Nat.div_one] at this
  exact this
theorem e_X6_hoursOfRow {σ : MM} {n c : Nat} {ow gt : Nat → Nat} {w : Nat → Nat → Nat} (l : lay σ) (hE : ME σ G.t G.xs G.ys) (hn : n ≤ 6) (ho : ∀ i, i < n → mI σ 117 i = nI (ow i)) (hg : ∀ i, i < n → mI σ 118 i = nI (gt i)) (hr : ∀ i, i < n → mI σ 119 i = nI (dgt n c i)) (how : ∀ i, i < n → ow i < 10) (hgt : ∀ i, i < n → gt i < 10) (hw : ∀ a, a < n → ∀ b, b < n → w a b = wayS G.xs G.ys (ow a) (gt b)) (hF : 100000 ≤ F) : g_X6_hoursOfRow F σ 85 (nI n) = some (nI (cstS w n c n), σ) := by
  unfold g_X6_hoursOfRow
  rw [if_pos (T85 l)]
  refine ylv (fun f v i σ => l_X6_hoursOfRow_4 (fun (r2_10 : Int32) (σ9 : MM) => some (r2_10, σ9)) F 85 (nI n) f v i σ) (fun v σ => some (v, σ)) (fun i => nI (cstS w n c i)) σ n (fun f i hi => ?_) (fun f => ?_) (f := F) (by omega)
  · (try dsimp only)
    have dl : dgt n c i < n := Nat.mod_lt _ (by omega)
    rw [l_X6_hoursOfRow_4.eq_2, if_pos (nI_lt hi (by omega)), gP_T (T85 l), Option.bind_some, P85_54 l, rwG l (by decide) (by omega), Option.bind_some, ho i hi, gP_T (T85 l), Option.bind_some, P85_55 l, r56 l, Option.bind_some, rwG l (by decide) (by omega), Option.bind_some, hr i hi, rwG l (by decide) (by omega), Option.bind_some, hg _ dl, e_wayM l hE (how i hi) (hgt _ dl), bq_some, ← hw i hi _ dl, nI_add, nI_1]
    rfl
  · (try dsimp only)
    rw [l_X6_hoursOfRow_4.eq_2, if_neg (nI_nlt (Nat.le_refl _) (by omega))]
def rEm (x _y : Nat) : Prop := x = 119 ∨ x = 120
theorem rEm_rSM (x y : Nat) (h : rEm x y) : rSM x y := by
  unfold rEm at h
  unfold rSM
  omega
theorem even_loop {σ : MM} {n : Nat} {ow gt : Nat → Nat} {w : Nat → Nat → Nat} (h : MI σ G) (hn : n ≤ 6) (h58 : mI σ 85 58 = nI n) (ho : ∀ i, i < n → mI σ 117 i = nI (ow i)) (hg : ∀ i, i < n → mI σ 118 i = nI (gt i)) (how : ∀ i, i < n → ow i < 10) (hgt : ∀ i, i < n → gt i < 10) (hw : ∀ a, a < n → ∀ b, b < n → w a b = wayS G.xs G.ys (ow a) (gt b)) (hw18 : ∀ a b, w a b ≤ 18) (hF : 100000 ≤ F) (x1 : Int32) (K : Int32 → MM → Option (Int32 × MM)) : ∃ σ', l_X6_even_98 K F 85 x1 (nI (n ^ n)) F 1000000 0 σ = K (tN 1000000 (runE w n (0, 0) 0 (n ^ n)).1) σ' ∧ kj rEm σ σ' ∧ ((runE w n (0, 0) 0 (n ^ n)).1 ≠ 0 → ∀ i, i < n → mI σ' 120 i = nI (gt (dgt n (runE w n (0, 0) 0 (n ^ n)).2 i))) := by
  have nn : n ^ n ≤ 46656 := by
    have h1 : n ^ n ≤ 6 ^ n := Nat.pow_le_pow_left hn n
    have h2 : 6 ^ n ≤ 6 ^ 6 := Nat.pow_le_pow_right (by decide) hn
    have h3 : (6 : Nat) ^ 6 = 46656 := by decide
    omega
  obtain ⟨v, s, ⟨k1, v1, r1⟩, e1⟩ := yl2 (fun f v i σ => l_X6_even_98 K F 85 x1 (nI (n ^ n)) f v i σ) K (fun c v t => kj rEm σ t ∧ v = tN 1000000 (runE w n (0, 0) 0 c).1 ∧ ((runE w n (0, 0) 0 c).1 ≠ 0 → ∀ i, i < n → mI t 120 i = nI (gt (dgt n (runE w n (0, 0) 0 c).2 i)))) (n ^ n) (by
    intro f c v t hc ⟨k1, v1, r1⟩
    subst v1
    have lt := k1.ly h.l
    obtain ⟨s, hs⟩ : ∃ s, runE w n (0, 0) 0 c = s := ⟨_, rfl⟩
    have nx : runE w n (0, 0) 0 (c + 1) = upE w n s c := by rw [runE.eq_2, hs, Nat.zero_add]
    have sle := runE_le (w := w) (n := n) (lo := 0) (s := (0, 0)) hw18 hn (Nat.zero_le _) c
    rw [hs] at r1 sle
    have q58 : ∀ {t' : MM}, kj rEm σ t' → gI t' 85 5 62 58 = some (nI n) := fun k => by rw [gI_T (T85 (k.ly h.l)), k.2 85 58 (by unfold rEm; omega), h58]
    obtain ⟨t2, e2, k2, r2⟩ := e_X6_readsRow (F := F) (c := c) lt hn (by omega) hF
    have k2' : kj rEm t t2 := k2.mono (fun x y q => Or.inl q)
    have k12 := k1.trans k2'
    have l2 := k12.ly h.l
    have r120 : mI t2 120 = mI t 120 := k2.row (fun y q => by have q : (120 : Nat) = 119 := q; omega)
    (try dsimp only)
    rw [hs, l_X6_even_98.eq_2, if_pos (nI_lt hc (by omega)), q58 k1, Option.bind_some, e2, bq_some, nI_1]
    by_cases cp : permB n c = true
    · have h2 := h.s k12 rEm_rSM
      have hoR := e_X6_hoursOfRow (F := F) (w := w) l2 h2.1.2.2 hn (fun i hi => by rw [k12.2 117 i (by unfold rEm; omega)]; exact ho i hi) (fun i hi => by rw [k12.2 118 i (by unfold rEm; omega)]; exact hg i hi) (r2 cp) how hgt hw hF
      have cl := cst_le (n := n) (c := c) hw18 n
      rw [if_pos cp, if_neg (by decide), q58 k12, Option.bind_some, hoR, bq_some]
      by_cases ct : s.1 = 0 ∨ cstS w n c n < s.1 - 1
      · have up : upE w n s c = (cstS w n c n + 1, c) := by unfold upE; rw [if_pos ⟨cp, ct⟩]
        have lt2 : nI (cstS w n c n) < tN 1000000 s.1 := by
          unfold tN
          by_cases c0 : s.1 = 0
          · rw [if_pos c0]; exact nI_lt (by omega) (by decide)
          · rw [if_neg c0]; exact nI_lt (ct.resolve_left c0) (by omega)
        rw [if_pos lt2, q58 k12, Option.bind_some, hoR, bq_some]
        obtain ⟨t5, ⟨k5, w5⟩, e5⟩ := yl1 (l_X6_even_144 (fun (σ29 : MM) => l_X6_even_98 K F 85 x1 (nI (n ^ n)) f (nI (cstS w n c n)) (nI (c + 1)) σ29) F 85 x1 (nI (n ^ n)) (nI (cstS w n c n)) (nI c)) (fun (σ29 : MM) => l_X6_even_98 K F 85 x1 (nI (n ^ n)) f (nI (cstS w n c n)) (nI (c + 1)) σ29) (fun i t' => kj (fun x _ => x = 120) t2 t' ∧ ∀ j, j < i → mI t' 120 j = nI (gt (dgt n c j))) n (by
          intro g i t' hi ⟨k3, w3⟩
          have l3 := k3.ly l2
          have k3' : kj rEm σ t' := k12.trans (k3.mono (fun x y q => Or.inr q))
          have dl : dgt n c i < n := Nat.mod_lt _ (by omega)
          refine ⟨wI t' 120 i (nI (gt (dgt n c i))), ⟨k3.trans (kj.w rfl), fun j hj => ?_⟩, ?_⟩
          · by_cases e : j = i
            · subst e; exact mI_ws
            · rw [mI_wy e]; exact w3 j (by omega)
          · rw [l_X6_even_144.eq_2, q58 k3', Option.bind_some, if_pos (nI_lt hi (by omega)), gP_T (T85 l3), Option.bind_some, P85_57 l3, gP_T (T85 l3), Option.bind_some, P85_55 l3, r56 l3, Option.bind_some, rwG l3 (by decide) (by omega), Option.bind_some, k3.2 119 i (by omega), r2 cp i hi, rwG l3 (by decide) (by omega), Option.bind_some, k3'.2 118 _ (by unfold rEm; omega), hg _ dl, rwS l3 (by decide) (by omega), Option.bind_some, nI_1 i]) (by
          intro g t' ⟨k3, w3⟩
          have k3' : kj rEm σ t' := k12.trans (k3.mono (fun x y q => Or.inr q))
          rw [l_X6_even_144.eq_2, q58 k3', Option.bind_some, if_neg (nI_nlt (Nat.le_refl _) (by omega))]) (f := F) (σ := t2) (by omega) ⟨kj.refl, fun j hj => absurd hj (Nat.not_lt_zero j)⟩
        refine ⟨nI (cstS w n c n), t5, ⟨k12.trans (k5.mono (fun x y q => Or.inr q)), ?_, fun _ => ?_⟩, e5⟩
        · rw [nx, up]; rfl
        · rw [nx, up]; exact w5
      · have c0 : s.1 ≠ 0 := fun q => ct (Or.inl q)
        have up : upE w n s c = s := by unfold upE; rw [if_neg (fun q => ct q.2)]
        have nlt : ¬ nI (cstS w n c n) < tN 1000000 s.1 := by
          unfold tN
          rw [if_neg c0]
          exact nI_nlt (Nat.le_of_not_lt (fun q => ct (Or.inr q))) (by omega)
        rw [if_neg nlt]
        exact ⟨_, t2, ⟨k12, by rw [nx, up], by rw [nx, up, r120]; exact r1⟩, rfl⟩
    · have up : upE w n s c = s := by unfold upE; rw [if_neg (fun q => cp q.1)]
      rw [if_neg cp, if_pos rfl]
      exact ⟨_, t2, ⟨k12, by rw [nx, up], by rw [nx, up, r120]; exact r1⟩, rfl⟩) (by
    intro f v t _
    (try dsimp only)
    rw [l_X6_even_98.eq_2, if_neg (nI_nlt (Nat.le_refl _) (by omega))]) (f := F) (v := 1000000) (by omega) ⟨kj.refl, by rw [runE_0]; rfl, fun q => absurd (by rw [runE_0]) q⟩
  refine ⟨s, e1.trans ?_, k1, r1⟩
  rw [v1]
theorem pow_loop {σ : MM} {n : Nat} (l : lay σ) (hn : n ≤ 6) (h58 : mI σ 85 58 = nI n) (hF : 100000 ≤ F) (x1 : Int32) (K : Int32 → MM → Option (Int32 × MM)) : l_X6_even_70 K F 85 x1 F 1 0 σ = K (nI (n ^ n)) σ := by
  have := ylv (fun f v i σ => l_X6_even_70 K F 85 x1 f v i σ) K (fun i => nI (n ^ i)) σ n (fun f i hi => by
    (try dsimp only)
    rw [l_X6_even_70.eq_2, gI_T (T85 l), Option.bind_some, h58, if_pos (nI_lt hi (by omega)), Option.bind_some, nI_mul, nI_1]
    rfl) (fun f => by
    (try dsimp only)
    rw [l_X6_even_70.eq_2, gI_T (T85 l), Option.bind_some, h58, if_neg (nI_nlt (Nat.le_refl _) (by omega))]) (f := F) (by omega)
  exact this
theorem call_even (hG : GW B G) (hF : 100000 ≤ F) (a : Int32) : Call B G (fun σ => g_X0_even F σ 1 a) (fun τ => g_X6_even F τ 85 a) := by
  unfold g_X0_even g_X6_even
  have h9 := hG.2.2.1.b99
  have sp : sm (posV G.S.1) 10 ≤ 9900 := Nat.le_trans (sm_le (M := 990) 10 (fun p hp => by have := gets_le h9 hp; unfold posV; omega)) (by decide)
  have ok : (∃ w, (w < 6 ∨ w = 100 ∨ w = 101) ∧ a = nI w) ∨ ((∀ F σ, g_X0_within F σ a 100 101 = some (0, σ)) ∧ (∀ F σ, g_X6_in F σ a 100 101 = some (0, σ)) ∧ (∀ F σ, g_X0_in F σ a 6 = some (0, σ)) ∧ ∀ F σ, g_X6_in F σ a 0 5 = some (0, σ)) := by
    rcases within_is (x := a) (l := 100) (m := 101) (by decide) (by decide) with ⟨k, h1, h2, e, -, -⟩ | ⟨n1, n2⟩
    · exact Or.inl ⟨k, by omega, e⟩
    · rcases in_is (x := a) (n := 6) (by decide) (by decide) with ⟨k, h1, e⟩ | ⟨m1, m2⟩
      · exact Or.inl ⟨k, Or.inl h1, e⟩
      · exact Or.inr ⟨n1, n2, m1, m2⟩
  rcases ok with ⟨v, hv, rfl⟩ | ⟨n1, n2, m1, m2⟩
  · have x1 : ∀ (K : MM → Option (Int32 × MM)) F σ, (bq (g_X0_within F σ (nI v) 100 101) fun v2 σ1 => jn K (fun k4 => if v2 = 0 then (bq (g_X0_in F σ1 (nI v) 6) fun v16 σ15 => if v16 = 0 then (some ((-1 : Int32), σ15)) else (k4 σ15)) else (k4 σ1))) = K σ := by
      intro K F σ
      dsimp only [jn]
      unfold g_X0_within
      by_cases c : v < 6
      · rw [if_pos (show nI v < 100 from nI_lt (b := 100) (by omega) (by decide)), bq_some, if_pos rfl, show (6 : Int32) = nI 6 from rfl, in_yes c (by decide), bq_some, if_neg (by decide)]
      · rw [if_neg (show ¬ nI v < 100 from nI_nlt (b := 100) (by omega) (by omega)), if_neg (show ¬ 101 < nI v from nI_nlt (a := 101) (by omega) (by decide)), bq_some, if_neg (by decide)]
    have x2 : ∀ (K : MM → Option (Int32 × MM)) F σ, (bq (g_X6_in F σ (nI v) 0 5) fun v2 σ1 => jn K (fun k4 => if v2 = 0 then (bq (g_X6_in F σ1 (nI v) 100 101) fun v37 σ36 => if v37 = 0 then (some ((-1 : Int32), σ36)) else (k4 σ36)) else (k4 σ1))) = K σ := by
      intro K F σ
      dsimp only [jn]
      unfold g_X6_in
      by_cases c : v < 6
      · rw [if_neg (show ¬ nI v < 0 from nI_pos (by omega)), if_neg (show ¬ 5 < nI v from nI_nlt (a := 5) (by omega) (by decide)), bq_some, if_neg (by decide)]
      · rw [if_neg (show ¬ nI v < 0 from nI_pos (by omega)), if_pos (show 5 < nI v from nI_lt (a := 5) (by omega) (by omega)), bq_some, if_pos rfl, if_neg (show ¬ nI v < 100 from nI_nlt (b := 100) (by omega) (by omega)), if_neg (show ¬ 101 < nI v from nI_nlt (a := 101) (by omega) (by decide)), bq_some, if_neg (by decide)]
    have v100 : nI v = 100 ↔ v = 100 := nI_eq (b := 100) (by omega) (by decide)
    have v101 : nI v = 101 ↔ v = 101 := nI_eq (b := 101) (by omega) (by decide)
    by_cases c100 : v = 100
    · refine call_same hG (nI (sm (posV G.S.1) 10)) (fun σ h => ⟨σ, ?_, kj.refl⟩) (fun τ h => ?_)
      · (try dsimp only)
        rw [if_pos (T1 h.l), x1, e_X0_lack hG h hF, bq_some, if_pos (v100.mpr c100)]
      · obtain ⟨s, e, k, i, -, -⟩ := e_X6_laysLacks (F := F) hG h hF
        refine ⟨s, ?_, k.mono rLk_rSM⟩
        (try dsimp only)
        rw [if_pos (T85 h.l), x2, e, Option.bind_some, if_pos (v100.mpr c100), gI_T (T85 (k.ly h.l)), Option.bind_some, i]
    · by_cases hm : sm (posV G.S.1) 10 ≤ 6
      · by_cases cv : v < 6 ∧ ¬ v < sm (posV G.S.1) 10
        · refine call_same hG (-4) (fun σ h => ⟨σ, ?_, kj.refl⟩) (fun τ h => ?_)
          · (try dsimp only)
            rw [if_pos (T1 h.l), x1, e_X0_lack hG h hF, bq_some, if_neg (fun q => c100 (v100.mp q)), if_neg (show ¬ 6 < nI (sm (posV G.S.1) 10) from nI_nlt (a := 6) hm (by decide))]
            dsimp only [jn]
            rw [if_pos (show nI v < 6 from nI_lt (b := 6) cv.1 (by decide)), if_neg (nI_nlt (by omega) (by omega))]
          · obtain ⟨s, e, k, i, -, -⟩ := e_X6_laysLacks (F := F) hG h hF
            have ls := k.ly h.l
            refine ⟨s, ?_, k.mono rLk_rSM⟩
            (try dsimp only)
            rw [if_pos (T85 h.l), x2, e, Option.bind_some, if_neg (fun q => c100 (v100.mp q)), gI_T (T85 ls), Option.bind_some, i, if_neg (show ¬ 6 < nI (sm (posV G.S.1) 10) from nI_nlt (a := 6) hm (by decide))]
            dsimp only [jn]
            rw [if_pos (show nI v < 100 from nI_lt (b := 100) (by omega) (by decide)), Option.bind_some, if_neg (nI_nlt (by omega) (by omega))]
        · -- the pairing
          obtain ⟨n, hn⟩ : ∃ n, sm (posV G.S.1) 10 = n := ⟨_, rfl⟩
          have hn2 : sm (negV G.S.1) 10 = n := by rw [← pos_neg]; exact hn
          have e1n : (lsB (posV G.S.1) 10).1 = n := by rw [lsB_n, hn]
          have e2n : (lsB (negV G.S.1) 10).1 = n := by rw [lsB_n, hn2]
          have ow10 : ∀ i, i < n → (lsB (posV G.S.1) 10).2 i < 10 := fun i hi => lsB_W 10 (Nat.le_refl _) i (by rw [e1n]; exact hi)
          have gt10 : ∀ i, i < n → (lsB (negV G.S.1) 10).2 i < 10 := fun i hi => lsB_W 10 (Nat.le_refl _) i (by rw [e2n]; exact hi)
          obtain ⟨ow, how⟩ : ∃ ow, (lsB (posV G.S.1) 10).2 = ow := ⟨_, rfl⟩
          obtain ⟨gt, hgt⟩ : ∃ gt, (lsB (negV G.S.1) 10).2 = gt := ⟨_, rfl⟩
          rw [how] at ow10
          rw [hgt] at gt10
          obtain ⟨w, hwe⟩ : ∃ w : Nat → Nat → Nat, w = fun a b => if a < n ∧ b < n then wayS G.xs G.ys (ow a) (gt b) else 0 := ⟨_, rfl⟩
          have hw : ∀ a, a < n → ∀ b, b < n → w a b = wayS G.xs G.ys (ow a) (gt b) := fun a ha b hb => by rw [hwe]; exact if_pos ⟨ha, hb⟩
          have hw18 : ∀ a b, w a b ≤ 18 := fun a b => by
            rw [hwe]
            (try dsimp only)
            split
            · rename_i q
              exact (wayS_b hG.2.1 (ow10 a q.1) (gt10 b q.2)).2
            · exact Nat.zero_le _
          rw [hn] at hm cv
          obtain ⟨c0, hc0, hp0⟩ := perm_ex hm
          have nz := runE_nz (w := w) (s := (0, 0)) (lo := 0) hp0 (n ^ n) (Nat.zero_le _) (by omega)
          have bd := runE_le (w := w) (n := n) (lo := 0) (s := (0, 0)) hw18 hm (Nat.zero_le _) (n ^ n)
          have tNv : ∀ N, tN N (runE w n (0, 0) 0 (n ^ n)).1 = nI ((runE w n (0, 0) 0 (n ^ n)).1 - 1) := fun N => if_neg nz
          refine call_same hG (if v = 101 then nI ((runE w n (0, 0) 0 (n ^ n)).1 - 1) else nI (gt (dgt n (runE w n (0, 0) 0 (n ^ n)).2 v))) (fun σ h => ?_) (fun τ h => ?_)
          · obtain ⟨s, e, k, o, g⟩ := e_X0_takesLack (F := F) hG h (by rw [hn]; exact hm) hF
            have k1 : kj rSC σ (wI s 1 15 268435456) := (k.mono rEv_rSC).trans (kj.w (Or.inr (Or.inr (Or.inr ⟨rfl, Or.inr rfl⟩))))
            have h1 := h.s k1 (fun _ _ q => q)
            have ls := k.ly h.l
            obtain ⟨s2, e2, k2, -, b2⟩ := evens_C (F := F) (G := G) (B := B) (ow := ow) (gt := gt) hm hF hG.2.1 ow10 gt10 w hw hw18 n 0 0 0 64 (wI s 1 15 268435456) (0, 0) (by omega) (by omega) (Nat.zero_le _) h1 (fun i hi => by rw [mI_wn (by decide)]; rw [← how]; exact o i (by rw [e1n]; exact hi) (by omega)) (fun i hi => by rw [mI_wn (by decide)]; rw [← hgt]; exact g i (by rw [e2n]; exact hi) (by omega)) ⟨Nat.pow_pos (by decide), fun m hm9 => ⟨fun q => by rw [Nat.zero_testBit] at q; exact Bool.noConfusion q, fun ⟨i, q, _⟩ => absurd q (Nat.not_lt_zero i)⟩⟩ (fun i hi => absurd hi (Nat.not_lt_zero i)) (fun i hi => absurd hi (Nat.not_lt_zero i)) ⟨by rw [mI_ws]; rfl, fun q => absurd rfl q⟩
            have e2' : g_X0_evens F (wI s 1 15 268435456) 1 0 (nI n) 0 0 = some s2 := e2
            rw [Nat.zero_mul, Nat.sub_zero] at b2
            have l2 := k2.ly h1.l
            refine ⟨s2, ?_, k1.trans (k2.mono rEs_rSC)⟩
            have tail : ((g_X0_takesLack F σ 1).bind fun σ9 => (pI σ9 1 0 22 15 268435456).bind fun σ10 => (g_X0_evens F σ10 1 0 (nI n) 0 0).bind fun σ11 => if nI v = 101 then ((gI σ11 1 0 22 15).bind fun v14 => some (v14, σ11)) else ((gP σ11 1 0 22 14).bind fun p12 => (aI σ11 p12 20 (nI v)).bind fun v13 => some (v13, σ11))) = some (if v = 101 then nI ((runE w n (0, 0) 0 (n ^ n)).1 - 1) else nI (gt (dgt n (runE w n (0, 0) 0 (n ^ n)).2 v)), s2) := by
              rw [e, Option.bind_some, pI_T (T1 ls), Option.bind_some, e2', Option.bind_some]
              by_cases c101 : v = 101
              · rw [if_pos (v101.mpr c101), if_pos c101, gI_T (T1 l2), Option.bind_some, b2.1, tNv]
              · rw [if_neg (fun q => c101 (v101.mp q)), if_neg c101, j68 l2, Option.bind_some, jG l2 (Or.inr rfl) (by omega), Option.bind_some, b2.2 nz v (by omega)]
            (try dsimp only)
            rw [if_pos (T1 h.l), x1, e_X0_lack hG h hF, bq_some, if_neg (fun q => c100 (v100.mp q)), hn, if_neg (show ¬ 6 < nI n from nI_nlt (a := 6) hm (by decide))]
            dsimp only [jn]
            by_cases c6 : v < 6
            · rw [if_pos (show nI v < 6 from nI_lt (b := 6) c6 (by decide)), if_pos (nI_lt (by omega) (by omega))]
              exact tail
            · rw [if_neg (show ¬ nI v < 6 from nI_nlt (b := 6) (by omega) (by omega))]
              exact tail
          · obtain ⟨s, e, k, i, o, g⟩ := e_X6_laysLacks (F := F) hG h hF
            rw [hn] at i
            have h1 := h.s k rLk_rSM
            have ls := h1.l
            obtain ⟨s2, e2, k2, b2⟩ := even_loop (F := F) (ow := ow) (gt := gt) h1 hm i (fun j hj => by rw [← how]; exact o j (by rw [e1n]; exact hj) (by omega)) (fun j hj => by rw [← hgt]; exact g j (by rw [e2n]; exact hj) (by omega)) ow10 gt10 hw hw18 hF (nI v) (fun (r3_31 : Int32) (σ30 : MM) => if nI v = 101 then (some (r3_31, σ30)) else ((gP σ30 85 5 62 57).bind fun p32 => (aI σ30 p32 20 (nI v)).bind fun v33 => some (v33, σ30)))
            have l2 := k2.ly ls
            refine ⟨s2, ?_, (k.mono rLk_rSM).trans (k2.mono rEm_rSM)⟩
            have tail : l_X6_even_70 (fun (r2_12 : Int32) (σ11 : MM) => l_X6_even_98 (fun (r3_31 : Int32) (σ30 : MM) => if nI v = 101 then (some (r3_31, σ30)) else ((gP σ30 85 5 62 57).bind fun p32 => (aI σ30 p32 20 (nI v)).bind fun v33 => some (v33, σ30))) F 85 (nI v) r2_12 F 1000000 0 σ11) F 85 (nI v) F 1 0 s = some (if v = 101 then nI ((runE w n (0, 0) 0 (n ^ n)).1 - 1) else nI (gt (dgt n (runE w n (0, 0) 0 (n ^ n)).2 v)), s2) := by
              rw [pow_loop ls hm i hF]
              (try dsimp only)
              rw [e2, tNv]
              by_cases c101 : v = 101
              · rw [if_pos (v101.mpr c101), if_pos c101]
              · rw [if_neg (fun q => c101 (v101.mp q)), if_neg c101, gP_T (T85 l2), Option.bind_some, P85_57 l2, rwG l2 (by decide) (by omega), Option.bind_some, b2 nz v (by omega)]
            (try dsimp only)
            rw [if_pos (T85 h.l), x2, e, Option.bind_some, if_neg (fun q => c100 (v100.mp q)), gI_T (T85 ls), Option.bind_some, i, if_neg (show ¬ 6 < nI n from nI_nlt (a := 6) hm (by decide))]
            dsimp only [jn]
            by_cases c6 : v < 6
            · rw [if_pos (show nI v < 100 from nI_lt (b := 100) (by omega) (by decide)), Option.bind_some, if_pos (nI_lt (by omega) (by omega))]
              exact tail
            · rw [if_neg (show ¬ nI v < 100 from nI_nlt (b := 100) (by omega) (by omega))]
              exact tail
      · refine call_same hG (-3) (fun σ h => ⟨σ, ?_, kj.refl⟩) (fun τ h => ?_)
        · (try dsimp only)
          rw [if_pos (T1 h.l), x1, e_X0_lack hG h hF, bq_some, if_neg (fun q => c100 (v100.mp q)), if_pos (show 6 < nI (sm (posV G.S.1) 10) from nI_lt (a := 6) (by omega) (by omega))]
        · obtain ⟨s, e, k, i, -, -⟩ := e_X6_laysLacks (F := F) hG h hF
          refine ⟨s, ?_, k.mono rLk_rSM⟩
          (try dsimp only)
          rw [if_pos (T85 h.l), x2, e, Option.bind_some, if_neg (fun q => c100 (v100.mp q)), gI_T (T85 (k.ly h.l)), Option.bind_some, i, if_pos (show 6 < nI (sm (posV G.S.1) 10) from nI_lt (a := 6) (by omega) (by omega))]
  · refine call_look hG (-1) (fun σ h => ?_) (fun τ h => ?_)
    · (try dsimp only)
      rw [if_pos (T1 h.l), n1, bq_some]
      dsimp only [jn]
      rw [if_pos rfl, m1, bq_some, if_pos rfl]
    · (try dsimp only)
      rw [if_pos (T85 h.l), m2, bq_some]
      dsimp only [jn]
      rw [if_pos rfl, n2, bq_some, if_pos rfl]
end EVENM
