/-! THE TOUR -/
def canP (d : Nat → Nat → Nat) (p b : Nat) : Prop := 0 < d p b ∧ rowB (decD d p b) b
def leastP (d : Nat → Nat → Nat) (p b : Nat) : Prop := b < 10 ∧ canP d p b ∧ ∀ c, c < b → ¬ canP d p c
theorem least_ex {Q : Nat → Prop} : ∀ (n b : Nat), b ≤ n → Q b → ∃ c, c ≤ b ∧ Q c ∧ ∀ e, e < c → ¬ Q e
  | 0, b, h, q => ⟨b, Nat.le_refl b, q, fun e he => absurd he (by omega)⟩
  | n + 1, b, h, q => by
    by_cases c : ∃ e, e < b ∧ Q e
    · obtain ⟨e, he, qe⟩ := c
      obtain ⟨x, h1, h2, h3⟩ := least_ex (Q := Q) n e (by omega) qe
      exact ⟨x, by omega, h2, h3⟩
    · exact ⟨b, Nat.le_refl b, q, fun e he qe => c ⟨e, he, qe⟩⟩
noncomputable def nxB (d : Nat → Nat → Nat) (p : Nat) : Nat := (Classical.propDecidable (∃ b, leastP d p b)).byCases (fun h => Classical.choose h) (fun _ => 0)
theorem nxB_is {d : Nat → Nat → Nat} {p : Nat} (hp : p < 10) (h : rowB d p) (h0 : 0 < allS d) : leastP d p (nxB d p) := by
  have ex : ∃ b, leastP d p b := by
    obtain ⟨b, hb, h1, h2⟩ := row_step hp h h0
    obtain ⟨c, c1, c2, c3⟩ := least_ex (Q := canP d p) b b (Nat.le_refl b) ⟨h1, h2⟩
    exact ⟨c, by omega, c2, c3⟩
  unfold nxB Decidable.byCases
  cases Classical.propDecidable (∃ b, leastP d p b) with
  | isTrue q => exact Classical.choose_spec q
  | isFalse q => exact absurd ex q
noncomputable def tq (d : Nat → Nat → Nat) (p : Nat) : Nat → (Nat → Nat → Nat) × Nat
  | 0 => (d, p)
  | k + 1 => (decD (tq d p k).1 (tq d p k).2 (nxB (tq d p k).1 (tq d p k).2), nxB (tq d p k).1 (tq d p k).2)
theorem all_dec {d : Nat → Nat → Nat} {a b : Nat} (ha : a < 10) (hb : b < 10) (h : 0 < d a b) : allS (decD d a b) + 1 = allS d := by
  have e : allS (fun x y => decD d a b x y + one1 a b x y) = allS d := sm_congr 10 (fun x hx => sm_congr 10 (fun y hy => by
    unfold decD one1
    (try dsimp only)
    by_cases c : x = a ∧ y = b
    · rw [if_pos c, if_pos c, c.1, c.2]; omega
    · rw [if_neg c, if_neg c]; rfl))
  have e2 : allS (fun x y => decD d a b x y + one1 a b x y) = sm (fun x => owesS (decD d a b) x + e1 x a) 10 := sm_congr 10 (fun x hx => by rw [owes_add, owes_one hb])
  rw [sm_add, sm_point (f := fun x => e1 x a) (b := a) (v := 1) 10 (fun k _ => rfl), if_pos ha] at e2
  rw [← e, e2]
  rfl
theorem dec99 {d : Nat → Nat → Nat} {a b : Nat} (h : b99 d) : b99 (decD d a b) := fun x hx y hy => by
  have := h x hx y hy
  unfold decD
  split <;> omega
theorem tq_ok {d : Nat → Nat → Nat} {p : Nat} (hp : p < 10) (h : rowB d p) (h9 : b99 d) : ∀ k, k ≤ allS d → rowB (tq d p k).1 (tq d p k).2 ∧ (tq d p k).2 < 10 ∧ allS (tq d p k).1 + k = allS d ∧ b99 (tq d p k).1
  | 0, _ => ⟨h, hp, rfl, h9⟩
  | k + 1, hk => by
    obtain ⟨h1, h2, h3, h4⟩ := tq_ok hp h h9 k (by omega)
    obtain ⟨u1, u2, u3⟩ := nxB_is h2 h1 (by omega)
    have := all_dec h2 u1 u2.1
    refine ⟨u2.2, u1, ?_, dec99 h4⟩
    show allS (decD (tq d p k).1 (tq d p k).2 (nxB (tq d p k).1 (tq d p k).2)) + (k + 1) = allS d
    omega
section TOUR
variable {B F : Nat} {G : GG}
def rWk (x _y : Nat) : Prop := 57 ≤ x ∧ x ≤ 67
def rWo (x _y : Nat) : Prop := 57 ≤ x ∧ x ≤ 66
theorem rWo_rWk (x y : Nat) (h : rWo x y) : rWk x y := by
  unfold rWo at h
  unfold rWk
  omega
theorem rWk_rSC (x y : Nat) (h : rWk x y) : rSC x y := by
  unfold rWk at h
  unfold rSC
  omega
theorem kO {σ : MM} (l : lay σ) : gP σ 1 0 22 12 = some 55 := by rw [gP_T (T1 l), P1_12 l]
theorem kO2 {σ : MM} (l : lay σ) : gP σ 55 3 1 0 = some 56 := by rw [gP_T (T55 l), P55_0 l]
theorem kR {σ : MM} {a : Nat} (l : lay σ) (ha : a < 10) : aP σ 56 22 (nI a) = some (57 + a) := by
  rw [aP_T (by rw [T56 l]) (by rw [T56 l]; exact ha) (by rw [T56 l]; decide), G56 l ha]
theorem kG {σ : MM} {a b : Nat} (l : lay σ) (ha : a < 10) (hb : b < 10) : aI σ (57 + a) 20 (nI b) = some (mI σ (57 + a) b) := by
  have h : mT σ (57 + a) = (20, 10) := R56 l ha
  exact aI_T (by rw [h]) (by rw [h]; exact hb) (by rw [h]; decide)
theorem kS {σ : MM} {a b : Nat} {v : Int32} (l : lay σ) (ha : a < 10) (hb : b < 10) : sI σ (57 + a) (nI b) v = some (wI σ (57 + a) b v) := by
  have h : mT σ (57 + a) = (20, 10) := R56 l ha
  exact sI_T (by rw [h]) (by rw [h]; exact hb) (by rw [h]; decide)
theorem hasD_dec {σ : MM} {d : Nat → Nat → Nat} {a b : Nat} (h : hasD σ 55 d) (ha : a < 10) (hb : b < 10) (hd : 0 < d a b) : hasD (wI σ (57 + a) b (nI (d a b) - 1)) 55 (decD d a b) := by
  intro x hx y hy
  unfold decD
  by_cases c : x = a ∧ y = b
  · rw [if_pos c, c.1, c.2]
    show mI _ (57 + a) b = _
    rw [mI_ws]
    obtain ⟨n, hn⟩ : ∃ n, d a b = n + 1 := ⟨d a b - 1, by omega⟩
    rw [hn, nI_pred]; rfl
  · rw [if_neg c, mI_wI, if_neg (by omega)]
    exact h x hx y hy
theorem e_X0_canPay {σ : MM} {d : Nat → Nat → Nat} {a b : Nat} (l : lay σ) (hd : hasD σ 55 d) (h9 : b99 d) (ha : a < 10) (hb : b < 10) (hF : 100000 ≤ F) : ∃ z σ', g_X0_canPay F σ 1 (nI a) (nI b) = some (z, σ') ∧ kj rWo σ σ' ∧ ((canP d a b ∧ z = 1 ∧ hasD σ' 55 (decD d a b)) ∨ (¬ canP d a b ∧ z = 0 ∧ hasD σ' 55 d)) := by
  have h99 := h9 a ha b hb
  have hv : mI σ (57 + a) b = nI (d a b) := hd a ha b hb
  unfold g_X0_canPay
  rw [if_pos (T1 l)]
  simp only [kO l, kO2 l, kR l ha, kG l ha hb, Option.bind_some, hv]
  by_cases c : d a b = 0
  · rw [if_pos (by rw [c]; rfl)]
    exact ⟨0, σ, rfl, kj.refl, Or.inr ⟨fun q => by have := q.1; omega, rfl, hd⟩⟩
  · rw [if_neg (nI_ne0 (by omega) (by omega)), kS l ha hb, Option.bind_some]
    have k1 : kj rWo σ (wI σ (57 + a) b (nI (d a b) - 1)) := kj.w ⟨by omega, by omega⟩
    have l1 := k1.ly l
    have h1 := hasD_dec hd ha hb (by omega)
    obtain ⟨z, e, hz⟩ := e_X4_areOneRow (F := F) (lay_isB55 l1) h1 (dec99 h9) hb (by omega)
    rw [kO l1, Option.bind_some, e, bq_some]
    cases z with
    | true =>
      rw [if_neg (show ¬ (if true = true then (1 : Int32) else 0) = 0 by decide)]
      exact ⟨1, _, rfl, k1, Or.inl ⟨⟨by omega, hz.mp rfl⟩, rfl, h1⟩⟩
    | false =>
      have hv2 : mI (wI σ (57 + a) b (nI (d a b) - 1)) (57 + a) b = nI (d a b) - 1 := mI_ws
      rw [if_pos (show (if false = true then (1 : Int32) else 0) = 0 from rfl)]
      simp only [kO l1, kO2 l1, kR l1 ha, kG l1 ha hb, Option.bind_some, hv2]
      rw [kS l1 ha hb, Option.bind_some, Int32.sub_add_cancel]
      refine ⟨0, _, rfl, k1.trans (kj.w ⟨by omega, by omega⟩), Or.inr ⟨fun q => absurd (hz.mpr q.2) (by decide), rfl, fun x hx y hy => ?_⟩⟩
      rw [mI_wI, mI_wI]
      by_cases c2 : x = a ∧ y = b
      · rw [if_pos ⟨by omega, c2.2⟩, c2.1, c2.2]
      · rw [if_neg (by omega), if_neg (by omega)]
        exact hd x hx y hy
theorem pay_loop {d : Nat → Nat → Nat} {a b0 : Nat} (h9 : b99 d) (ha : a < 10) (hb : leastP d a b0) (hF : 100000 ≤ F) (K : Int32 → MM → Option (Int32 × MM)) (x2 x4 : Int32) : ∀ (n b f : Nat) (σ : MM), b + n = b0 → n < f → lay σ → hasD σ 55 d → ∃ σ', l_X0_laysTour_29 K F 1 x2 (nI a) x4 f (nI b) σ = K (nI b0) σ' ∧ kj rWo σ σ' ∧ hasD σ' 55 (decD d a b0) := by
  obtain ⟨h1, h2, h3⟩ := hb
  intro n
  induction n with
  | zero =>
    intro b f σ e hf l hd
    obtain ⟨f, rfl⟩ : ∃ g, f = g + 1 := ⟨f - 1, by omega⟩
    have e : b = b0 := by omega
    subst e
    obtain ⟨z, s, e1, k1, hz⟩ := e_X0_canPay (F := F) l hd h9 ha h1 hF
    rw [l_X0_laysTour_29.eq_2, e1, bq_some]
    rcases hz with ⟨-, rfl, u⟩ | ⟨u, -, -⟩
    · rw [if_neg (by decide)]; exact ⟨s, rfl, k1, u⟩
    · exact absurd h2 u
  | succ n ih =>
    intro b f σ e hf l hd
    obtain ⟨f, rfl⟩ : ∃ g, f = g + 1 := ⟨f - 1, by omega⟩
    obtain ⟨z, s, e1, k1, hz⟩ := e_X0_canPay (F := F) l hd h9 ha (b := b) (by omega) hF
    rw [l_X0_laysTour_29.eq_2, e1, bq_some]
    rcases hz with ⟨u, -, -⟩ | ⟨-, rfl, u⟩
    · exact absurd u (h3 b (by omega))
    · rw [if_pos rfl, nI_1]
      obtain ⟨s2, e2, k2, u2⟩ := ih (b + 1) f s (by omega) (by omega) (k1.ly l) u
      exact ⟨s2, e2, k1.trans k2, u2⟩
theorem e_X0_laysTour {σ : MM} {p : Nat} (hG : GW B G) (h : CI B σ G) (hp : p < 10) (hr : rowB G.S.1 p) (hm : allS G.S.1 ≤ 60) (hF : 100000 ≤ F) : ∃ σ', g_X0_laysTour F σ 1 (nI p) (nI (allS G.S.1)) = some (nI (tq G.S.1 p (allS G.S.1)).2, σ') ∧ kj rWk σ σ' ∧ ∀ i, i < allS G.S.1 → mI σ' 67 i = nI (tq G.S.1 p (i + 1)).2 := by
  have l := h.l
  have h9 := hG.2.2.1.b99
  obtain ⟨s0, e0, k0, d0⟩ := e_X4_takes (F := F) (lay_isB55 l) (d5.B l) h.2.1.1 (Or.inr (by omega)) (by omega)
  have k0j := k0.j (R := rWk) (fun x y q => by have q : 55 + 2 ≤ x ∧ x < 55 + 12 := q; unfold rWk; omega)
  unfold g_X0_laysTour
  rw [if_pos (T1 l), kO l, Option.bind_some, gP_T (T1 l), Option.bind_some, P1_4 l, dbP l d5, Option.bind_some, e0, bq_some]
  have key : ∀ n k f s, k + n = allS G.S.1 → n < f → kj rWk σ s → hasD s 55 (tq G.S.1 p k).1 → (∀ i, i < k → mI s 67 i = nI (tq G.S.1 p (i + 1)).2) → ∃ σ', l_X0_laysTour_20 (fun (r3_13 : Int32) (σ12 : MM) => some (r3_13, σ12)) F 1 (nI (allS G.S.1)) f (nI (tq G.S.1 p k).2) (nI k) s = some (nI (tq G.S.1 p (allS G.S.1)).2, σ') ∧ kj rWk σ σ' ∧ ∀ i, i < allS G.S.1 → mI σ' 67 i = nI (tq G.S.1 p (i + 1)).2 := by
    intro n
    induction n with
    | zero =>
      intro k f s e hf hk hd hi
      obtain ⟨f, rfl⟩ : ∃ g, f = g + 1 := ⟨f - 1, by omega⟩
      have e : k = allS G.S.1 := by omega
      subst e
      rw [l_X0_laysTour_20.eq_2, if_neg (nI_nlt (Nat.le_refl _) (by omega))]
      exact ⟨s, rfl, hk, hi⟩
    | succ n ih =>
      intro k f s e hf hk hd hi
      obtain ⟨f, rfl⟩ : ∃ g, f = g + 1 := ⟨f - 1, by omega⟩
      obtain ⟨t1, t2, t3, t4⟩ := tq_ok hp hr h9 k (by omega)
      have hb := nxB_is t2 t1 (by omega)
      rw [l_X0_laysTour_20.eq_2, if_pos (nI_lt (by omega) (by omega))]
      obtain ⟨s2, e2, k2, u2⟩ := pay_loop (F := F) t4 t2 hb hF (fun (r5_9 : Int32) (σ8 : MM) => (gP σ8 1 0 22 13).bind fun p10 => (sI σ8 p10 (nI k) r5_9).bind fun σ11 => l_X0_laysTour_20 (fun (r3_13 : Int32) (σ12 : MM) => some (r3_13, σ12)) F 1 (nI (allS G.S.1)) f r5_9 ((nI k + 1)) σ11) (nI (allS G.S.1)) (nI k) (nxB (tq G.S.1 p k).1 (tq G.S.1 p k).2) 0 F s (by omega) (by have := hb.1; omega) (hk.ly l) hd
      have ks := hk.trans (k2.mono rWo_rWk)
      have ls := ks.ly l
      have k60 : k < 60 := by omega
      rw [show (0 : Int32) = nI 0 from rfl, e2]
      (try dsimp only)
      rw [gP_T (T1 ls), Option.bind_some, P1_13 ls, sI_T (by rw [T67 ls]) (by rw [T67 ls]; exact k60) (by rw [T67 ls]; decide), Option.bind_some, nI_1 k]
      refine ih (k + 1) f _ (by omega) (by omega) (ks.trans (kj.w ⟨by omega, by omega⟩)) (fun x hx y hy => ?_) (fun i hi9 => ?_)
      · rw [mI_wn (by omega)]; exact u2 x hx y hy
      · by_cases c : i = k
        · subst c; rw [mI_ws]; rfl
        · rw [mI_wy c, k2.2 67 i (by unfold rWo; omega)]
          exact hi i (by omega)
  exact key (allS G.S.1) 0 F s0 (by omega) (by omega) k0j d0 (fun i hi => absurd hi (Nat.not_lt_zero i))
/-! the model's -/
def rTo (x _y : Nat) : Prop := x = 110
def rTm (x _y : Nat) : Prop := x = 110 ∨ x = 111
theorem rTm_rSM (x y : Nat) (h : rTm x y) : rSM x y := by
  unfold rTm at h
  unfold rSM
  omega
theorem lO {σ : MM} (l : lay σ) : gP σ 85 5 62 46 = some 110 := by rw [gP_T (T85 l), P85_46 l]
theorem lS {σ : MM} {k : Nat} {v : Int32} (l : lay σ) (hk : k < 100) : sI σ 110 (nI k) v = some (wI σ 110 k v) := sI_T (by rw [T110 l]) (by rw [T110 l]; exact hk) (by rw [T110 l]; decide)
theorem hasL_dec {σ : MM} {d : Nat → Nat → Nat} {a b : Nat} (h : hasL σ 110 d) (ha : a < 10) (hb : b < 10) (hd : 0 < d a b) : hasL (wI σ 110 (10 * a + b) (nI (d a b) - 1)) 110 (decD d a b) := by
  intro x hx y hy
  unfold decD
  by_cases c : x = a ∧ y = b
  · rw [if_pos c, c.1, c.2, mI_ws]
    obtain ⟨n, hn⟩ : ∃ n, d a b = n + 1 := ⟨d a b - 1, by omega⟩
    rw [hn, nI_pred]; rfl
  · rw [if_neg c, mI_wy (by omega)]
    exact h x hx y hy
theorem e_X6_canGo {σ : MM} {d : Nat → Nat → Nat} {a b : Nat} (l : lay σ) (hd : hasL σ 110 d) (h9 : b99 d) (ha : a < 10) (hb : b < 10) (hF : 100000 ≤ F) : ∃ z σ', g_X6_canGo F σ 85 (nI a) (nI b) = some (z, σ') ∧ kj rTo σ σ' ∧ hasL σ' 110 d ∧ ((canP d a b ∧ z = 1) ∨ (¬ canP d a b ∧ z = 0)) := by
  have h99 := h9 a ha b hb
  unfold g_X6_canGo
  rw [if_pos (T85 l), e_X6_leftOf l hd ha hb, bq_some]
  by_cases c : d a b = 0
  · rw [if_pos (by rw [c]; rfl)]
    exact ⟨0, σ, rfl, kj.refl, hd, Or.inr ⟨fun q => by have := q.1; omega, rfl⟩⟩
  · rw [if_neg (nI_ne0 (by omega) (by omega)), lO l, Option.bind_some, e_X6_leftOf l hd ha hb, bq_some, ten_ab, lS l (by omega), Option.bind_some]
    have k1 : kj rTo σ (wI σ 110 (10 * a + b) (nI (d a b) - 1)) := kj.w rfl
    have l1 := k1.ly l
    have h1 := hasL_dec hd ha hb (by omega)
    obtain ⟨z, e, hz⟩ := e_X6_isRow (F := F) l1 h1 (dec99 h9) hb (by omega)
    have hv : decD d a b a b = d a b - 1 := by unfold decD; rw [if_pos ⟨rfl, rfl⟩]
    have e2 : nI (decD d a b a b) + 1 = nI (d a b) := by rw [hv, nI_1]; congr 1; omega
    have back : hasL (wI (wI σ 110 (10 * a + b) (nI (d a b) - 1)) 110 (10 * a + b) (nI (d a b))) 110 d := fun x hx y hy => by
      rw [mI_wI, mI_wI]
      by_cases c2 : x = a ∧ y = b
      · rw [if_pos ⟨rfl, by omega⟩, c2.1, c2.2]
      · rw [if_neg (by omega), if_neg (by omega)]
        exact hd x hx y hy
    rw [e, bq_some, lO l1, Option.bind_some, e_X6_leftOf l1 h1 ha hb, bq_some, e2, lS l1 (by omega), Option.bind_some]
    cases z with
    | true => exact ⟨1, _, rfl, k1.trans (kj.w rfl), back, Or.inl ⟨⟨by omega, hz.mp rfl⟩, rfl⟩⟩
    | false => exact ⟨0, _, rfl, k1.trans (kj.w rfl), back, Or.inr ⟨fun q => absurd (hz.mpr q.2) (by decide), rfl⟩⟩
theorem go_loop {d : Nat → Nat → Nat} {a b0 : Nat} (h9 : b99 d) (ha : a < 10) (hb : leastP d a b0) (hF : 100000 ≤ F) (K : Int32 → MM → Option (Int32 × MM)) (x2 x4 : Int32) : ∀ (n b f : Nat) (σ : MM), b + n = b0 → n < f → lay σ → hasL σ 110 d → ∃ σ', l_X6_laysTour_52 K F 85 x2 (nI a) x4 f (nI b) σ = K (nI b0) σ' ∧ kj rTo σ σ' ∧ hasL σ' 110 d := by
  obtain ⟨h1, h2, h3⟩ := hb
  intro n
  induction n with
  | zero =>
    intro b f σ e hf l hd
    obtain ⟨f, rfl⟩ : ∃ g, f = g + 1 := ⟨f - 1, by omega⟩
    have e : b = b0 := by omega
    subst e
    obtain ⟨z, s, e1, k1, u, hz⟩ := e_X6_canGo (F := F) l hd h9 ha h1 hF
    rw [l_X6_laysTour_52.eq_2, e1, bq_some]
    rcases hz with ⟨-, rfl⟩ | ⟨u, -⟩
    · rw [if_neg (by decide)]; exact ⟨s, rfl, k1, u⟩
    · exact absurd h2 u
  | succ n ih =>
    intro b f σ e hf l hd
    obtain ⟨f, rfl⟩ : ∃ g, f = g + 1 := ⟨f - 1, by omega⟩
    obtain ⟨z, s, e1, k1, u, hz⟩ := e_X6_canGo (F := F) l hd h9 ha (b := b) (by omega) hF
    rw [l_X6_laysTour_52.eq_2, e1, bq_some]
    rcases hz with ⟨v, -⟩ | ⟨-, rfl⟩
    · exact absurd v (h3 b (by omega))
    · rw [if_pos rfl, nI_1]
      obtain ⟨s2, e2, k2, u2⟩ := ih (b + 1) f s (by omega) (by omega) (k1.ly l) u
      exact ⟨s2, e2, k1.trans k2, u2⟩
theorem e_X6_laysTour {σ : MM} {p : Nat} (hG : GW B G) (h : MI σ G) (hp : p < 10) (hm : allS G.S.1 ≤ 60) (hF : 100000 ≤ F) : ∃ z σ', g_X6_laysTour F σ 85 (nI p) (nI (allS G.S.1)) = some (z, σ') ∧ kj rTm σ σ' ∧ ((rowB G.S.1 p ∧ z = 1 ∧ ∀ i, i < allS G.S.1 → mI σ' 111 i = nI (tq G.S.1 p (i + 1)).2) ∨ (¬ rowB G.S.1 p ∧ z = 0)) := by
  have l := h.l
  have h9 := hG.2.2.1.b99
  unfold g_X6_laysTour
  rw [if_pos (T85 l)]
  obtain ⟨s0, k0, d0, e0⟩ := left_load (F := F) l h.2.1.1 (l_X6_laysTour_2 (fun (σ5 : MM) => bq (g_X6_isRow F σ5 85 (nI p)) fun v7 σ6 => if v7 = 0 then (some (0, σ6)) else (l_X6_laysTour_43 (fun (σ18 : MM) => some (1, σ18)) F 85 (nI (allS G.S.1)) F (nI p) 0 σ6)) F 85 (nI p) (nI (allS G.S.1))) (fun (σ5 : MM) => bq (g_X6_isRow F σ5 85 (nI p)) fun v7 σ6 => if v7 = 0 then (some (0, σ6)) else (l_X6_laysTour_43 (fun (σ18 : MM) => some (1, σ18)) F 85 (nI (allS G.S.1)) F (nI p) 0 σ6)) (fun f z σ => l_X6_laysTour_2.eq_2 _ _ _ _ _ _ _ _) (by omega)
  have k0j := k0.j (R := rTm) (fun x y q => Or.inl q)
  have l0 := k0.ly l
  obtain ⟨z, e, hz⟩ := e_X6_isRow (F := F) l0 d0 h9 hp (by omega)
  rw [e0]
  (try dsimp only)
  rw [e, bq_some]
  cases z with
  | false =>
    rw [if_pos (show (if false = true then (1 : Int32) else 0) = 0 from rfl)]
    exact ⟨0, s0, rfl, k0j, Or.inr ⟨fun q => absurd (hz.mpr q) (by decide), rfl⟩⟩
  | true =>
    rw [if_neg (show ¬ (if true = true then (1 : Int32) else 0) = 0 by decide)]
    have hr := hz.mp rfl
    have key : ∀ n k f s, k + n = allS G.S.1 → n < f → kj rTm σ s → hasL s 110 (tq G.S.1 p k).1 → (∀ i, i < k → mI s 111 i = nI (tq G.S.1 p (i + 1)).2) → ∃ σ', l_X6_laysTour_43 (fun (σ18 : MM) => some ((1 : Int32), σ18)) F 85 (nI (allS G.S.1)) f (nI (tq G.S.1 p k).2) (nI k) s = some ((1 : Int32), σ') ∧ kj rTm σ σ' ∧ ∀ i, i < allS G.S.1 → mI σ' 111 i = nI (tq G.S.1 p (i + 1)).2 := by
      intro n
      induction n with
      | zero =>
        intro k f s e hf hk hd hi
        obtain ⟨f, rfl⟩ : ∃ g, f = g + 1 := ⟨f - 1, by omega⟩
        have e : k = allS G.S.1 := by omega
        subst e
        rw [l_X6_laysTour_43.eq_2, if_neg (nI_nlt (Nat.le_refl _) (by omega))]
        exact ⟨s, rfl, hk, hi⟩
      | succ n ih =>
        intro k f s e hf hk hd hi
        obtain ⟨f, rfl⟩ : ∃ g, f = g + 1 := ⟨f - 1, by omega⟩
        obtain ⟨t1, t2, t3, t4⟩ := tq_ok hp hr h9 k (by omega)
        have hb := nxB_is t2 t1 (by omega)
        rw [l_X6_laysTour_43.eq_2, if_pos (nI_lt (by omega) (by omega))]
        obtain ⟨s2, e2, k2, u2⟩ := go_loop (F := F) t4 t2 hb hF (fun (r5_11 : Int32) (σ10 : MM) => (gP σ10 85 5 62 46).bind fun p12 => bq (g_X6_leftOf F σ10 85 (nI (tq G.S.1 p k).2) r5_11) fun v14 σ13 => (sI σ13 p12 (((10 * (nI (tq G.S.1 p k).2)) + r5_11)) ((v14 - 1))).bind fun σ15 => (gP σ15 85 5 62 47).bind fun p16 => (sI σ15 p16 (nI k) r5_11).bind fun σ17 => l_X6_laysTour_43 (fun (σ18 : MM) => some ((1 : Int32), σ18)) F 85 (nI (allS G.S.1)) f r5_11 ((nI k + 1)) σ17) (nI (allS G.S.1)) (nI k) (nxB (tq G.S.1 p k).1 (tq G.S.1 p k).2) 0 F s (by omega) (by have := hb.1; omega) (hk.ly l) hd
        have ks := hk.trans (k2.mono (R' := rTm) (fun x y q => Or.inl q))
        have ls := ks.ly l
        have k60 : k < 60 := by omega
        have nd := hasL_dec u2 t2 hb.1 hb.2.1.1
        have l2 : lay (wI s2 110 (10 * (tq G.S.1 p k).2 + nxB (tq G.S.1 p k).1 (tq G.S.1 p k).2) (nI ((tq G.S.1 p k).1 (tq G.S.1 p k).2 (nxB (tq G.S.1 p k).1 (tq G.S.1 p k).2)) - 1)) := ls
        have b10 := hb.1
        rw [show (0 : Int32) = nI 0 from rfl, e2]
        (try dsimp only)
        rw [lO ls, Option.bind_some, e_X6_leftOf ls u2 t2 hb.1, bq_some, ten_ab, lS ls (by omega), Option.bind_some, gP_T (T85 l2), Option.bind_some, P85_47 l2, sI_T (by rw [T111 l2]) (by rw [T111 l2]; exact k60) (by rw [T111 l2]; decide), Option.bind_some, nI_1 k]
        refine ih (k + 1) f _ (by omega) (by omega) ((ks.trans (kj.w (Or.inl rfl))).trans (kj.w (Or.inr rfl))) (fun x hx y hy => ?_) (fun i hi9 => ?_)
        · rw [mI_wn (by decide)]; exact nd x hx y hy
        · by_cases c : i = k
          · subst c; rw [mI_ws]; rfl
          · rw [mI_wy c, mI_wn (by decide), k2.2 111 i (by unfold rTo; omega)]
            exact hi i (by omega)
    obtain ⟨s9, e9, k9, i9⟩ := key (allS G.S.1) 0 F s0 (by omega) (by omega) k0j d0 (fun i hi => absurd hi (Nat.not_lt_zero i))
    exact ⟨1, s9, e9, k9, Or.inl ⟨hr, rfl, i9⟩⟩
/-- the component's end, where it is allowed -/
theorem tour_C {σ : MM} {w : Nat} (hG : GW B G) (h : CI B σ G) (hw : w < 60 ∨ w = 100 ∨ w = 101 ∨ w = 102) (hq : G.S.2.2.2 0 < 10) (hm : allS G.S.1 ≤ 60) (hF : 100000 ≤ F) : ∃ r σ', (bq (g_X4_all F σ 6) fun v10 σ9 => if 60 < v10 then (some ((-3), σ9)) else (if nI w = 101 then (some (v10, σ9)) else ((gP σ9 1 0 22 4).bind fun p11 => (gP σ9 p11 2 16 0).bind fun p12 => (gP σ9 1 0 22 4).bind fun p13 => (gI σ9 p13 2 16 3).bind fun v14 => bq (g_X4_areOneRow F σ9 p12 v14) fun v16 σ15 => if nI w = 100 then (if v16 = 0 then (some (0, σ15)) else (some (1, σ15))) else (if v16 = 0 then (some ((-4), σ15)) else (jn (fun (σ17 : MM) => (gP σ17 1 0 22 4).bind fun p19 => (gI σ17 p19 2 16 3).bind fun v20 => bq (g_X0_laysTour F σ17 1 v20 v10) fun v22 σ21 => if nI w < 60 then ((gP σ21 1 0 22 13).bind fun p25 => (aI σ21 p25 20 (nI w)).bind fun v26 => some (v26, σ21)) else ((gP σ21 1 0 22 4).bind fun p23 => (gI σ21 p23 2 16 3).bind fun v24 => if v22 = v24 then (some (1, σ21)) else (some (0, σ21)))) (fun k18 => if nI w < 60 then (if nI w < v10 then (k18 σ15) else (some ((-4), σ15))) else (k18 σ15))))))) = some (r, σ') ∧ kj rSC σ σ' ∧
    ((w = 101 ∧ r = nI (allS G.S.1)) ∨ (w = 100 ∧ ((rowB G.S.1 (G.S.2.2.2 0) ∧ r = 1) ∨ (¬ rowB G.S.1 (G.S.2.2.2 0) ∧ r = 0))) ∨ (w ≠ 101 ∧ w ≠ 100 ∧ ((¬ rowB G.S.1 (G.S.2.2.2 0) ∧ r = -4) ∨ (rowB G.S.1 (G.S.2.2.2 0) ∧ ((w < 60 ∧ ¬ w < allS G.S.1 ∧ r = -4) ∨ (w < 60 ∧ w < allS G.S.1 ∧ r = nI (tq G.S.1 (G.S.2.2.2 0) (w + 1)).2) ∨ (w = 102 ∧ r = if (tq G.S.1 (G.S.2.2.2 0) (allS G.S.1)).2 = G.S.2.2.2 0 then 1 else 0)))))) := by
  have l := h.l
  have h3 : gI σ 5 2 16 3 = some (nI (G.S.2.2.2 0)) := by rw [gI_T (T5 l), h.2.1.2.2.2.1, pv_lt hq]
  have g4 : gP σ 1 0 22 4 = some 5 := by rw [gP_T (T1 l), P1_4 l]
  rw [show (6 : Nat) = 5 + 1 from rfl, e_X4_all (d5.B l) h.2.1.1 (by omega), bq_some, if_neg (show ¬ 60 < nI (allS G.S.1) from nI_nlt (a := 60) hm (by decide))]
  by_cases w1 : w = 101
  · subst w1
    rw [if_pos (show nI 101 = 101 from rfl)]
    exact ⟨_, σ, rfl, kj.refl, Or.inl ⟨rfl, rfl⟩⟩
  have n1 : ¬ nI w = 101 := fun q => w1 ((nI_eq (b := 101) (by omega) (by decide)).mp q)
  obtain ⟨z, e, hz⟩ := e_X4_areOneRow (F := F) (d5.B l) h.2.1.1 hG.2.2.1.b99 hq (by omega)
  rw [if_neg n1]
  simp only [g4, dbP l d5, h3, Option.bind_some]
  rw [e, bq_some]
  by_cases w0 : w = 100
  · subst w0
    rw [if_pos (show nI 100 = 100 from rfl)]
    cases z with
    | false =>
      rw [if_pos (show (if false = true then (1 : Int32) else 0) = 0 from rfl)]
      exact ⟨0, σ, rfl, kj.refl, Or.inr (Or.inl ⟨rfl, Or.inr ⟨fun q => absurd (hz.mpr q) (by decide), rfl⟩⟩)⟩
    | true =>
      rw [if_neg (show ¬ (if true = true then (1 : Int32) else 0) = 0 by decide)]
      exact ⟨1, σ, rfl, kj.refl, Or.inr (Or.inl ⟨rfl, Or.inl ⟨hz.mp rfl, rfl⟩⟩)⟩
  have n0 : ¬ nI w = 100 := fun q => w0 ((nI_eq (b := 100) (by omega) (by decide)).mp q)
  rw [if_neg n0]
  cases z with
  | false =>
    rw [if_pos (show (if false = true then (1 : Int32) else 0) = 0 from rfl)]
    exact ⟨-4, σ, rfl, kj.refl, Or.inr (Or.inr ⟨w1, w0, Or.inl ⟨fun q => absurd (hz.mpr q) (by decide), rfl⟩⟩)⟩
  | true =>
    have hr := hz.mp rfl
    rw [if_neg (show ¬ (if true = true then (1 : Int32) else 0) = 0 by decide)]
    dsimp only [jn]
    simp only [g4, h3, Option.bind_some]
    obtain ⟨s, e2, k2, i2⟩ := e_X0_laysTour (F := F) hG h hq hr hm hF
    have hs := h.s k2 rWk_rSC
    have ls := hs.l
    by_cases c : w < 60
    · rw [if_pos (show nI w < 60 from nI_lt (b := 60) c (by decide))]
      by_cases c2 : w < allS G.S.1
      · rw [if_pos (nI_lt c2 (by omega)), e2, bq_some, if_pos (show nI w < 60 from nI_lt (b := 60) c (by decide)), gP_T (T1 ls), Option.bind_some, P1_13 ls, aI_T (by rw [T67 ls]) (by rw [T67 ls]; exact c) (by rw [T67 ls]; decide), Option.bind_some, i2 w c2]
        exact ⟨_, s, rfl, k2.mono rWk_rSC, Or.inr (Or.inr ⟨w1, w0, Or.inr ⟨hr, Or.inr (Or.inl ⟨c, c2, rfl⟩)⟩⟩)⟩
      · rw [if_neg (nI_nlt (by omega) (by omega))]
        exact ⟨-4, σ, rfl, kj.refl, Or.inr (Or.inr ⟨w1, w0, Or.inr ⟨hr, Or.inl ⟨c, c2, rfl⟩⟩⟩)⟩
    · have h102 : w = 102 := by omega
      have t2 := (tq_ok hq hr hG.2.2.1.b99 (allS G.S.1) (Nat.le_refl _)).2.1
      rw [if_neg (show ¬ nI w < 60 from nI_nlt (b := 60) (by omega) (by omega)), e2, bq_some, if_neg (show ¬ nI w < 60 from nI_nlt (b := 60) (by omega) (by omega)), gP_T (T1 ls), Option.bind_some, P1_4 ls, gI_T (T5 ls), Option.bind_some, hs.2.1.2.2.2.1, pv_lt hq]
      by_cases c3 : (tq G.S.1 (G.S.2.2.2 0) (allS G.S.1)).2 = G.S.2.2.2 0
      · rw [if_pos (by rw [c3])]
        exact ⟨1, s, rfl, k2.mono rWk_rSC, Or.inr (Or.inr ⟨w1, w0, Or.inr ⟨hr, Or.inr (Or.inr ⟨h102, by rw [if_pos c3]⟩)⟩⟩)⟩
      · rw [if_neg (fun q => c3 ((nI_eq (by omega) (by omega)).mp q))]
        exact ⟨0, s, rfl, k2.mono rWk_rSC, Or.inr (Or.inr ⟨w1, w0, Or.inr ⟨hr, Or.inr (Or.inr ⟨h102, by rw [if_neg c3]⟩)⟩⟩)⟩
theorem tour_M {σ : MM} {w : Nat} (hG : GW B G) (h : MI σ G) (hw : w < 60 ∨ w = 100 ∨ w = 101 ∨ w = 102) (hq : G.S.2.2.2 0 < 10) (hm : allS G.S.1 ≤ 60) (hF : 100000 ≤ F) : ∃ r σ', (if 60 < nI (allS G.S.1) then (some ((-3), σ)) else (if nI w = 101 then (some (nI (allS G.S.1), σ)) else ((gP σ 85 5 62 0).bind fun p9 => (aI σ p9 20 151).bind fun v10 => bq (g_X6_laysTour F σ 85 v10 (nI (allS G.S.1))) fun v12 σ11 => if nI w = 100 then (if v12 = 0 then (some (0, σ11)) else (some (1, σ11))) else (if v12 = 0 then (some ((-4), σ11)) else (jn (fun (σ13 : MM) => if nI w < 100 then ((gP σ13 85 5 62 47).bind fun p19 => (aI σ13 p19 20 (nI w)).bind fun v20 => some (v20, σ13)) else (if nI (allS G.S.1) = 0 then (some (1, σ13)) else ((gP σ13 85 5 62 47).bind fun p15 => (aI σ13 p15 20 ((nI (allS G.S.1) - 1))).bind fun v16 => (gP σ13 85 5 62 0).bind fun p17 => (aI σ13 p17 20 151).bind fun v18 => if v16 = v18 then (some (1, σ13)) else (some (0, σ13))))) (fun k14 => if nI w < 100 then (if nI w < nI (allS G.S.1) then (k14 σ11) else (some ((-4), σ11))) else (k14 σ11))))))) = some (r, σ') ∧ kj rSM σ σ' ∧
    ((w = 101 ∧ r = nI (allS G.S.1)) ∨ (w = 100 ∧ ((rowB G.S.1 (G.S.2.2.2 0) ∧ r = 1) ∨ (¬ rowB G.S.1 (G.S.2.2.2 0) ∧ r = 0))) ∨ (w ≠ 101 ∧ w ≠ 100 ∧ ((¬ rowB G.S.1 (G.S.2.2.2 0) ∧ r = -4) ∨ (rowB G.S.1 (G.S.2.2.2 0) ∧ ((w < 60 ∧ ¬ w < allS G.S.1 ∧ r = -4) ∨ (w < 60 ∧ w < allS G.S.1 ∧ r = nI (tq G.S.1 (G.S.2.2.2 0) (w + 1)).2) ∨ (w = 102 ∧ r = if (tq G.S.1 (G.S.2.2.2 0) (allS G.S.1)).2 = G.S.2.2.2 0 then 1 else 0)))))) := by
  have l := h.l
  have h3 : aI σ 86 20 151 = some (nI (G.S.2.2.2 0)) := by rw [a151 l, h.2.1.2.2.2.1, qv_lt hq]
  rw [if_neg (show ¬ 60 < nI (allS G.S.1) from nI_nlt (a := 60) hm (by decide))]
  by_cases w1 : w = 101
  · subst w1
    rw [if_pos (show nI 101 = 101 from rfl)]
    exact ⟨_, σ, rfl, kj.refl, Or.inl ⟨rfl, rfl⟩⟩
  have n1 : ¬ nI w = 101 := fun q => w1 ((nI_eq (b := 101) (by omega) (by decide)).mp q)
  obtain ⟨z, s, e, k2, hz⟩ := e_X6_laysTour (F := F) hG h hq hm hF
  have hs := h.s k2 rTm_rSM
  have ls := hs.l
  rw [if_neg n1, gN l, Option.bind_some, h3, Option.bind_some, e, bq_some]
  by_cases w0 : w = 100
  · subst w0
    rw [if_pos (show nI 100 = 100 from rfl)]
    rcases hz with ⟨hr, rfl, -⟩ | ⟨hr, rfl⟩
    · rw [if_neg (by decide)]
      exact ⟨1, s, rfl, k2.mono rTm_rSM, Or.inr (Or.inl ⟨rfl, Or.inl ⟨hr, rfl⟩⟩)⟩
    · rw [if_pos rfl]
      exact ⟨0, s, rfl, k2.mono rTm_rSM, Or.inr (Or.inl ⟨rfl, Or.inr ⟨hr, rfl⟩⟩)⟩
  have n0 : ¬ nI w = 100 := fun q => w0 ((nI_eq (b := 100) (by omega) (by decide)).mp q)
  rw [if_neg n0]
  rcases hz with ⟨hr, rfl, i2⟩ | ⟨hr, rfl⟩
  · rw [if_neg (by decide)]
    dsimp only [jn]
    by_cases c : w < 60
    · have c100 : nI w < 100 := nI_lt (b := 100) (by omega) (by decide)
      rw [if_pos c100]
      by_cases c2 : w < allS G.S.1
      · rw [if_pos (nI_lt c2 (by omega)), if_pos c100, gP_T (T85 ls), Option.bind_some, P85_47 ls, aI_T (by rw [T111 ls]) (by rw [T111 ls]; exact c) (by rw [T111 ls]; decide), Option.bind_some, i2 w c2]
        exact ⟨_, s, rfl, k2.mono rTm_rSM, Or.inr (Or.inr ⟨w1, w0, Or.inr ⟨hr, Or.inr (Or.inl ⟨c, c2, rfl⟩)⟩⟩)⟩
      · rw [if_neg (nI_nlt (by omega) (by omega))]
        exact ⟨-4, s, rfl, k2.mono rTm_rSM, Or.inr (Or.inr ⟨w1, w0, Or.inr ⟨hr, Or.inl ⟨c, c2, rfl⟩⟩⟩)⟩
    · have h102 : w = 102 := by omega
      have c100 : ¬ nI w < 100 := nI_nlt (b := 100) (by omega) (by omega)
      have t2 := (tq_ok hq hr hG.2.2.1.b99 (allS G.S.1) (Nat.le_refl _)).2.1
      rw [if_neg c100, if_neg c100]
      by_cases c0 : allS G.S.1 = 0
      · rw [if_pos (by rw [c0]; rfl)]
        refine ⟨1, s, rfl, k2.mono rTm_rSM, Or.inr (Or.inr ⟨w1, w0, Or.inr ⟨hr, Or.inr (Or.inr ⟨h102, ?_⟩)⟩⟩)⟩
        rw [c0]
        show 1 = if G.S.2.2.2 0 = G.S.2.2.2 0 then 1 else 0
        rw [if_pos rfl]
      · obtain ⟨n, hn⟩ : ∃ n, allS G.S.1 = n + 1 := ⟨allS G.S.1 - 1, by omega⟩
        have n60 : n < 60 := by omega
        have h4 : aI s 86 20 151 = some (nI (G.S.2.2.2 0)) := by rw [a151 ls, hs.2.1.2.2.2.1, qv_lt hq]
        rw [if_neg (nI_ne0 (by omega) (by omega)), hn, nI_pred, gP_T (T85 ls), Option.bind_some, P85_47 ls, aI_T (by rw [T111 ls]) (by rw [T111 ls]; exact n60) (by rw [T111 ls]; decide), Option.bind_some, i2 n (by omega), gN ls, Option.bind_some, h4, Option.bind_some]
        rw [hn] at t2
        by_cases c3 : (tq G.S.1 (G.S.2.2.2 0) (n + 1)).2 = G.S.2.2.2 0
        · rw [if_pos (by rw [c3])]
          exact ⟨1, s, rfl, k2.mono rTm_rSM, Or.inr (Or.inr ⟨w1, w0, Or.inr ⟨hr, Or.inr (Or.inr ⟨h102, by rw [if_pos c3]⟩)⟩⟩)⟩
        · rw [if_neg (fun q => c3 ((nI_eq (by omega) (by omega)).mp q))]
          exact ⟨0, s, rfl, k2.mono rTm_rSM, Or.inr (Or.inr ⟨w1, w0, Or.inr ⟨hr, Or.inr (Or.inr ⟨h102, by rw [if_neg c3]⟩)⟩⟩)⟩
  · rw [if_pos rfl]
    exact ⟨-4, s, rfl, k2.mono rTm_rSM, Or.inr (Or.inr ⟨w1, w0, Or.inl ⟨hr, rfl⟩⟩)⟩
noncomputable def tourR (G : GG) (w : Nat) (b : Bool) : Int32 := if w = 101 then nI (allS G.S.1) else if w = 100 then (if b = true then 1 else 0) else if b = false then -4 else if w < 60 then (if w < allS G.S.1 then nI (tq G.S.1 (G.S.2.2.2 0) (w + 1)).2 else -4) else (if (tq G.S.1 (G.S.2.2.2 0) (allS G.S.1)).2 = G.S.2.2.2 0 then 1 else 0)
theorem tour_r {w : Nat} {b : Bool} {r : Int32} (hb : b = true ↔ rowB G.S.1 (G.S.2.2.2 0)) (h : (w = 101 ∧ r = nI (allS G.S.1)) ∨ (w = 100 ∧ ((rowB G.S.1 (G.S.2.2.2 0) ∧ r = 1) ∨ (¬ rowB G.S.1 (G.S.2.2.2 0) ∧ r = 0))) ∨ (w ≠ 101 ∧ w ≠ 100 ∧ ((¬ rowB G.S.1 (G.S.2.2.2 0) ∧ r = -4) ∨ (rowB G.S.1 (G.S.2.2.2 0) ∧ ((w < 60 ∧ ¬ w < allS G.S.1 ∧ r = -4) ∨ (w < 60 ∧ w < allS G.S.1 ∧ r = nI (tq G.S.1 (G.S.2.2.2 0) (w + 1)).2) ∨ (w = 102 ∧ r = if (tq G.S.1 (G.S.2.2.2 0) (allS G.S.1)).2 = G.S.2.2.2 0 then 1 else 0)))))) : r = tourR G w b := by
  unfold tourR
  rcases h with ⟨h1, h2⟩ | ⟨h1, h2⟩ | ⟨h1, h2, h3⟩
  · rw [if_pos h1]; exact h2
  · rw [if_neg (by omega), if_pos h1]
    rcases h2 with ⟨u, v⟩ | ⟨u, v⟩
    · rw [if_pos (hb.mpr u)]; exact v
    · rw [if_neg (fun q => u (hb.mp q))]; exact v
  · rw [if_neg h1, if_neg h2]
    rcases h3 with ⟨u, v⟩ | ⟨u, v⟩
    · rw [if_pos (by cases b with | false => rfl | true => exact absurd (hb.mp rfl) u)]; exact v
    · rw [if_neg (by rw [hb.mpr u]; decide)]
      rcases v with ⟨v1, v2, v3⟩ | ⟨v1, v2, v3⟩ | ⟨v1, v3⟩
      · rw [if_pos v1, if_neg v2]; exact v3
      · rw [if_pos v1, if_pos v2]; exact v3
      · rw [if_neg (by omega)]; exact v3
theorem call_tour (hG : GW B G) (hF : 100000 ≤ F) (a : Int32) : Call B G (fun σ => g_X0_tour F σ 1 a) (fun τ => g_X6_tour F τ 85 a) := by
  unfold g_X0_tour g_X6_tour
  have e0 : (0 : Int32) = nI 0 := rfl
  have ok : (∃ w, (w < 60 ∨ w = 100 ∨ w = 101 ∨ w = 102) ∧ a = nI w) ∨ ((∀ F σ, g_X0_within F σ a 100 102 = some (0, σ)) ∧ (∀ F σ, g_X6_in F σ a 100 102 = some (0, σ)) ∧ (∀ F σ, g_X0_in F σ a 60 = some (0, σ)) ∧ ∀ F σ, g_X6_in F σ a 0 59 = some (0, σ)) := by
    rcases within_is (x := a) (l := 100) (m := 102) (by decide) (by decide) with ⟨k, h1, h2, e, -, -⟩ | ⟨n1, n2⟩
    · exact Or.inl ⟨k, by omega, e⟩
    · rcases in_is (x := a) (n := 60) (by decide) (by decide) with ⟨k, h1, e⟩ | ⟨m1, m2⟩
      · exact Or.inl ⟨k, Or.inl h1, e⟩
      · exact Or.inr ⟨n1, n2, m1, m2⟩
  rcases ok with ⟨w, hw, rfl⟩ | ⟨n1, n2, m1, m2⟩
  · -- both let it pass
    have x1 : ∀ (K : MM → Option (Int32 × MM)) F σ, (bq (g_X0_within F σ (nI w) 100 102) fun v2 σ1 => if v2 = 0 then (bq (g_X0_in F σ1 (nI w) 60) fun v28 σ27 => if v28 = 0 then (some ((-1 : Int32), σ27)) else (K σ27)) else (K σ1)) = K σ := by
      intro K F σ
      unfold g_X0_within
      by_cases c : w < 60
      · rw [if_pos (show nI w < 100 from nI_lt (b := 100) (by omega) (by decide)), bq_some, if_pos rfl, show (60 : Int32) = nI 60 from rfl, in_yes c (by decide), bq_some, if_neg (by decide)]
      · rw [if_neg (show ¬ nI w < 100 from nI_nlt (b := 100) (by omega) (by omega)), if_neg (show ¬ 102 < nI w from nI_nlt (a := 102) (by omega) (by decide)), bq_some, if_neg (by decide)]
    have x2 : ∀ (K : MM → Option (Int32 × MM)) F σ, (bq (g_X6_in F σ (nI w) 0 59) fun v2 σ1 => if v2 = 0 then (bq (g_X6_in F σ1 (nI w) 100 102) fun v22 σ21 => if v22 = 0 then (some ((-1 : Int32), σ21)) else (K σ21)) else (K σ1)) = K σ := by
      intro K F σ
      unfold g_X6_in
      by_cases c : w < 60
      · rw [if_neg (show ¬ nI w < 0 from nI_pos (by omega)), if_neg (show ¬ 59 < nI w from nI_nlt (a := 59) (by omega) (by decide)), bq_some, if_neg (by decide)]
      · rw [if_neg (show ¬ nI w < 0 from nI_pos (by omega)), if_pos (show 59 < nI w from nI_lt (a := 59) (by omega) (by omega)), bq_some, if_pos rfl, if_neg (show ¬ nI w < 100 from nI_nlt (b := 100) (by omega) (by omega)), if_neg (show ¬ 102 < nI w from nI_nlt (a := 102) (by omega) (by decide)), bq_some, if_neg (by decide)]
    by_cases hq : G.S.2.2.2 0 < 10
    · by_cases hm : allS G.S.1 ≤ 60
      · obtain ⟨b, hb⟩ : ∃ b : Bool, b = true ↔ rowB G.S.1 (G.S.2.2.2 0) := ⟨(Classical.propDecidable (rowB G.S.1 (G.S.2.2.2 0))).decide, @decide_eq_true_iff _ (Classical.propDecidable (rowB G.S.1 (G.S.2.2.2 0)))⟩
        refine call_same hG (tourR G w b) (fun σ h => ?_) (fun τ h => ?_)
        · obtain ⟨r, s, e, k, hr⟩ := tour_C (F := F) hG h hw hq hm hF
          rw [tour_r hb hr] at e
          refine ⟨s, ?_, k⟩
          (try dsimp only)
          rw [if_pos (T1 h.l)]
          dsimp only [jn] at e ⊢
          rw [x1]
          have h3 : gI σ 5 2 16 3 = some (nI (G.S.2.2.2 0)) := by rw [gI_T (T5 h.l), h.2.1.2.2.2.1, pv_lt hq]
          rw [gP_T (T1 h.l), Option.bind_some, P1_4 h.l, h3, Option.bind_some, if_neg (by rw [← pv_lt hq]; exact pv_ne hq), Option.bind_some, dbP h.l d5, Option.bind_some]
          exact e
        · obtain ⟨r, s, e, k, hr⟩ := tour_M (F := F) hG h hw hq hm hF
          rw [tour_r hb hr] at e
          refine ⟨s, ?_, k⟩
          (try dsimp only)
          rw [if_pos (T85 h.l)]
          dsimp only [jn] at e ⊢
          rw [x2]
          have h3 : aI τ 86 20 151 = some (nI (G.S.2.2.2 0)) := by rw [a151 h.l, h.2.1.2.2.2.1, qv_lt hq]
          rw [gN h.l, Option.bind_some, h3, Option.bind_some, if_neg (nI_pos (by omega)), e_X6_owedInAll h.l h.2.1.1 (by omega), bq_some]
          exact e
      · refine call_look hG (-3) (fun σ h => ?_) (fun τ h => ?_)
        · have all9900 : allS G.S.1 ≤ 9900 := Nat.le_trans (sm_le (M := 990) 10 (fun a ha => owes_le hG.2.2.1.b99 ha)) (by decide)
          (try dsimp only)
          rw [if_pos (T1 h.l)]
          dsimp only [jn]
          rw [x1]
          have h3 : gI σ 5 2 16 3 = some (nI (G.S.2.2.2 0)) := by rw [gI_T (T5 h.l), h.2.1.2.2.2.1, pv_lt hq]
          rw [gP_T (T1 h.l), Option.bind_some, P1_4 h.l, h3, Option.bind_some, if_neg (by rw [← pv_lt hq]; exact pv_ne hq), Option.bind_some, dbP h.l d5, Option.bind_some, e_X4_all (d5.B h.l) h.2.1.1 (by omega), bq_some, if_pos (show 60 < nI (allS G.S.1) from nI_lt (a := 60) (by omega) (by omega))]
        · have all9900 : allS G.S.1 ≤ 9900 := Nat.le_trans (sm_le (M := 990) 10 (fun a ha => owes_le hG.2.2.1.b99 ha)) (by decide)
          (try dsimp only)
          rw [if_pos (T85 h.l)]
          dsimp only [jn]
          rw [x2]
          have h3 : aI τ 86 20 151 = some (nI (G.S.2.2.2 0)) := by rw [a151 h.l, h.2.1.2.2.2.1, qv_lt hq]
          rw [gN h.l, Option.bind_some, h3, Option.bind_some, if_neg (nI_pos (by omega)), e_X6_owedInAll h.l h.2.1.1 (by omega), bq_some, if_pos (show 60 < nI (allS G.S.1) from nI_lt (a := 60) (by omega) (by omega))]
    · have h10 : G.S.2.2.2 0 = 10 := by have := hG.2.2.1.2.2.1; omega
      refine call_look hG (-2) (fun σ h => ?_) (fun τ h => ?_)
      · (try dsimp only)
        rw [if_pos (T1 h.l)]
        dsimp only [jn]
        rw [x1, gP_T (T1 h.l), Option.bind_some, P1_4 h.l, gI_T (T5 h.l), Option.bind_some, h.2.1.2.2.2.1, h10, if_pos pv_10]
      · (try dsimp only)
        rw [if_pos (T85 h.l)]
        dsimp only [jn]
        rw [x2, gN h.l, Option.bind_some, a151 h.l, Option.bind_some, h.2.1.2.2.2.1, h10, if_pos (show qv 10 < 0 by decide)]
  · refine call_look hG (-1) (fun σ h => ?_) (fun τ h => ?_)
    · (try dsimp only)
      rw [if_pos (T1 h.l), n1, bq_some]
      dsimp only [jn]
      rw [if_pos rfl, m1, bq_some, if_pos rfl]
    · (try dsimp only)
      rw [if_pos (T85 h.l), m2, bq_some]
      dsimp only [jn]
      rw [if_pos rfl, n2, bq_some, if_pos rfl]
end TOUR
