/-! THE LAW'S TEXT: clauses, each with a letter, what it holds of facts, what it tells of them -/
abbrev LW : Type := Nat × (Nat → Int32) × (Nat → (Nat → Int32) → Bool) × (Nat → (Nat → Int32) → Int32)
def f8 (g : Nat → Int32) : Nat → Int32 := fun j => if j < 8 then g j else 0
def fC (σ : MM) : Nat → Int32 := f8 (fun j => mI σ 4 (1 + j))
def fM (τ : MM) : Nat → Int32 := f8 (mI τ 104)
/-- the first clause of a letter that holds, from k on, n more -/
def firstS (L : LW) (c : Int32) (fx : Nat → Int32) : Nat → Nat → Option Nat
  | 0, _ => none
  | n + 1, k => if L.2.1 k = c ∧ L.2.2.1 k fx = true then some k else firstS L c fx n (k + 1)
def saysS (L : LW) (c : Int32) (fx : Nat → Int32) : Int32 := match firstS L c fx L.1 0 with | none => 0 | some _ => 1
def tellsS (L : LW) (c : Int32) (fx : Nat → Int32) : Int32 := match firstS L c fx L.1 0 with | none => 0 | some k => L.2.2.2 k fx
/-- a text's cells -/
def tx (a : Nat) : Prop := (51 ≤ a ∧ a ≤ 54) ∨ 122 < a
def kt (σ σ' : MM) : Prop := lay σ' ∧ ∀ a, tx a → a ≤ mN σ → mI σ' a = mI σ a ∧ mP σ' a = mP σ a ∧ mT σ' a = mT σ a
/-- only the moment's mark of refusal has changed -/
def k4 (σ σ' : MM) : Prop := kp (fun a => a = 4) σ σ' ∧ ∀ j, mI σ' 4 (1 + j) = mI σ 4 (1 + j)
theorem k4.refl {σ : MM} : k4 σ σ := ⟨kp.refl, fun _ => rfl⟩
theorem k4.trans {σ σ1 σ2 : MM} (h : k4 σ σ1) (g : k4 σ1 σ2) : k4 σ σ2 := ⟨h.1.trans g.1, fun j => (g.2 j).trans (h.2 j)⟩
theorem k4.fC {σ σ1 : MM} (h : k4 σ σ1) : fC σ1 = fC σ := by
  funext j
  show (if j < 8 then mI σ1 4 (1 + j) else 0) = (if j < 8 then mI σ 4 (1 + j) else 0)
  rw [h.2 j]
theorem k4.kt {σ σ0 σ1 : MM} (h : k4 σ σ1) (g : kt σ0 σ) : kt σ0 σ1 := ⟨h.1.ly g.1, fun a ha hn => by
  obtain ⟨g1, g2, g3⟩ := g.2 a ha hn
  refine ⟨(h.1.2 a (fun e => ?_)).trans g1, by rw [h.1.P]; exact g2, by rw [h.1.T]; exact g3⟩
  have e : a = 4 := e
  subst e
  rcases ha with ha | ha <;> omega⟩
/-- the component's text -/
def CL (σ : MM) (L : LW) : Prop := tx (mP σ 1 8) ∧ mP σ 1 8 ≤ mN σ ∧ mT σ (mP σ 1 8) = (4, 4) ∧ mI σ (mP σ 1 8) 3 = nI L.1 ∧ L.1 ≤ 16 ∧
  (∃ pl ps pc, tx pl ∧ pl ≤ mN σ ∧ tx ps ∧ ps ≤ mN σ ∧ tx pc ∧ pc ≤ mN σ ∧ mP σ (mP σ 1 8) 0 = pl ∧ mP σ (mP σ 1 8) 1 = ps ∧ mP σ (mP σ 1 8) 2 = pc ∧ mT σ pl = (20, 16) ∧ mT σ ps = (23, 16) ∧ mT σ pc = (24, 16) ∧
    ∀ k, k < L.1 → mI σ pl k = L.2.1 k ∧ (∀ (F : Nat) (σ' : MM), 100000 ≤ F → kt σ σ' → (∃ r σ'', v_holds F 64 σ' (mP σ pc k) 4 = some (r, σ'') ∧ k4 σ' σ'' ∧ (r = 1 ↔ L.2.2.1 k (fC σ') = true)) ∧ (L.2.1 k ≠ 115 → ∃ σ'', g_X8_told_X9 F σ' (mP σ ps k) 4 = some (L.2.2.2 k (fC σ'), σ'') ∧ k4 σ' σ'')))
/-- the model's codes -/
def kcod (τ τ' : MM) : Prop := lay τ' ∧ mI τ' 85 16 = mI τ 85 16 ∧ ∀ a, 98 ≤ a → a ≤ 102 → mI τ' a = mI τ a
def ML (τ : MM) (L : LW) : Prop := mI τ 85 16 = nI L.1 ∧ L.1 ≤ 16 ∧ ∀ k, k < L.1 → mI τ 99 k = L.2.1 k ∧ ∃ f h t : Nat, mI τ 100 k = nI f ∧ mI τ 101 k = nI h ∧ mI τ 102 k = nI t ∧
  ∀ (F : Nat) (τ' : MM), 100000 ≤ F → kcod τ τ' → (∃ v τ'', g_X6_comesTo F τ' 85 (nI h) (nI t) = some (v, τ'') ∧ kp (fun a => a = 103) τ' τ'' ∧ (v = 1 ↔ L.2.2.1 k (fM τ') = true)) ∧ (L.2.1 k ≠ 115 → ∃ τ'', g_X6_comesTo F τ' 85 (nI f) (nI h) = some (L.2.2.2 k (fM τ'), τ'') ∧ kp (fun a => a = 103) τ' τ'')
section LAW
variable {σ σ' : MM} {L : LW} {F : Nat}
theorem says_loop {c : Int32} (hC : CL σ L) (hF : 100000 ≤ F) (K : MM → Option (Int32 × MM)) : ∀ (n k f : Nat) (σ' : MM), k + n = L.1 → n < f → kt σ σ' → ∃ σ'', k4 σ' σ'' ∧ l_X5_says_2 K F (mP σ 1 8) c 4 f (nI k) σ' = (match firstS L c (fC σ') n k with | none => K σ'' | some _ => some (1, σ'')) := by
  obtain ⟨h1, h2, h3, h4, h5, pl, ps, pc, b1, b2, b3, b4, b5, b6, b7, b8, b9, t1, t2, t3, hk⟩ := hC
  intro n
  induction n with
  | zero =>
    intro k f σ' e hf g
    obtain ⟨f, rfl⟩ : ∃ f', f = f' + 1 := ⟨f - 1, by omega⟩
    obtain ⟨g1, g2, g3⟩ := g.2 _ h1 h2
    have e0 : k = L.1 := by omega
    subst e0
    refine ⟨σ', k4.refl, ?_⟩
    rw [l_X5_says_2.eq_2, gI_T (by rw [g3]; exact h3), Option.bind_some, g1, h4, if_neg (nI_nlt (Nat.le_refl _) (by omega))]
    rfl
  | succ n ih =>
    intro k f σ' e hf g
    obtain ⟨f, rfl⟩ : ∃ f', f = f' + 1 := ⟨f - 1, by omega⟩
    obtain ⟨g1, g2, g3⟩ := g.2 _ h1 h2
    obtain ⟨l1, l2, l3⟩ := g.2 _ b1 b2
    obtain ⟨c1, c2, c3⟩ := g.2 _ b5 b6
    have hkl : k < L.1 := by omega
    obtain ⟨q1, q2⟩ := hk k hkl
    obtain ⟨⟨r, σ2, w1, w2, w3⟩, -⟩ := q2 F σ' hF g
    have hT : mT σ' (mP σ 1 8) = (4, 4) := by rw [g3]; exact h3
    have hl : mT σ' pl = (20, 16) := by rw [l3]; exact t1
    have hc : mT σ' pc = (24, 16) := by rw [c3]; exact t3
    have k16 : k < 16 := by omega
    have e1 : l_X5_says_2 K F (mP σ 1 8) c 4 (f + 1) (nI k) σ' = if L.2.1 k = c then (if r = 1 then some (1, σ2) else l_X5_says_2 K F (mP σ 1 8) c 4 f (nI (k + 1)) σ2) else l_X5_says_2 K F (mP σ 1 8) c 4 f (nI (k + 1)) σ' := by
      rw [l_X5_says_2.eq_2, gI_T hT, Option.bind_some, g1, h4, if_pos (nI_lt hkl (by omega)), gP_T hT, Option.bind_some, g2, b7, aI_T (by rw [hl]) (by rw [hl]; exact k16) (by rw [hl]; decide), Option.bind_some, l1, q1, gP_T hT, Option.bind_some, g2, b9, aP_T (by rw [hc]) (by rw [hc]; exact k16) (by rw [hc]; decide), Option.bind_some, c2, w1, bq_some, nI_1]
    have e2 : firstS L c (fC σ') (n + 1) k = if L.2.1 k = c ∧ L.2.2.1 k (fC σ') = true then some k else firstS L c (fC σ') n (k + 1) := rfl
    rw [e1, e2]
    by_cases u1 : L.2.1 k = c
    · by_cases u2 : r = 1
      · rw [if_pos u1, if_pos u2, if_pos ⟨u1, w3.mp u2⟩]
        exact ⟨σ2, w2, rfl⟩
      · rw [if_pos u1, if_neg u2, if_neg (fun q => u2 (w3.mpr q.2))]
        obtain ⟨σ3, v1, v2⟩ := ih (k + 1) f σ2 (by omega) (by omega) (w2.kt g)
        rw [w2.fC] at v2
        exact ⟨σ3, w2.trans v1, v2⟩
    · rw [if_neg u1, if_neg (fun q => u1 q.1)]
      exact ih (k + 1) f σ' (by omega) (by omega) g
theorem e_X5_says {c : Int32} (hC : CL σ L) (hF : 100000 ≤ F) (g : kt σ σ') : ∃ σ'', k4 σ' σ'' ∧ g_X5_says F σ' (mP σ 1 8) c 4 = some (saysS L c (fC σ'), σ'') := by
  have hT : mT σ' (mP σ 1 8) = (4, 4) := by rw [(g.2 _ hC.1 hC.2.1).2.2]; exact hC.2.2.1
  have h16 := hC.2.2.2.2.1
  unfold g_X5_says
  rw [if_pos hT]
  obtain ⟨σ2, v1, v2⟩ := says_loop hC hF (c := c) (fun (σ8 : MM) => some (0, σ8)) L.1 0 F σ' (by omega) (by omega) g
  refine ⟨σ2, v1, v2.trans ?_⟩
  unfold saysS
  cases firstS L c (fC σ') L.1 0 <;> rfl
theorem tells_loop {c : Int32} (hc9 : c ≠ 115) (hC : CL σ L) (hF : 100000 ≤ F) (K : MM → Option (Int32 × MM)) : ∀ (n k f : Nat) (σ' : MM), k + n = L.1 → n < f → kt σ σ' → ∃ σ'', k4 σ' σ'' ∧ l_X5_tells_2 K F (mP σ 1 8) c 4 f (nI k) σ' = (match firstS L c (fC σ') n k with | none => K σ'' | some j => some (L.2.2.2 j (fC σ'), σ'')) := by
  obtain ⟨h1, h2, h3, h4, h5, pl, ps, pc, b1, b2, b3, b4, b5, b6, b7, b8, b9, t1, t2, t3, hk⟩ := hC
  intro n
  induction n with
  | zero =>
    intro k f σ' e hf g
    obtain ⟨f, rfl⟩ : ∃ f', f = f' + 1 := ⟨f - 1, by omega⟩
    obtain ⟨g1, g2, g3⟩ := g.2 _ h1 h2
    have e0 : k = L.1 := by omega
    subst e0
    refine ⟨σ', k4.refl, ?_⟩
    rw [l_X5_tells_2.eq_2, gI_T (by rw [g3]; exact h3), Option.bind_some, g1, h4, if_neg (nI_nlt (Nat.le_refl _) (by omega))]
    rfl
  | succ n ih =>
    intro k f σ' e hf g
    obtain ⟨f, rfl⟩ : ∃ f', f = f' + 1 := ⟨f - 1, by omega⟩
    obtain ⟨g1, g2, g3⟩ := g.2 _ h1 h2
    obtain ⟨l1, l2, l3⟩ := g.2 _ b1 b2
    obtain ⟨c1, c2, c3⟩ := g.2 _ b5 b6
    have hkl : k < L.1 := by omega
    obtain ⟨q1, q2⟩ := hk k hkl
    obtain ⟨⟨r, σ2, w1, w2, w3⟩, -⟩ := q2 F σ' hF g
    obtain ⟨-, q3⟩ := q2 F σ2 hF (w2.kt g)
    obtain ⟨s1, s2, s3⟩ := (w2.kt g).2 _ b3 b4
    obtain ⟨m1, m2, m3⟩ := (w2.kt g).2 _ h1 h2
    have hT : mT σ' (mP σ 1 8) = (4, 4) := by rw [g3]; exact h3
    have hT2 : mT σ2 (mP σ 1 8) = (4, 4) := by rw [m3]; exact h3
    have hl : mT σ' pl = (20, 16) := by rw [l3]; exact t1
    have hc : mT σ' pc = (24, 16) := by rw [c3]; exact t3
    have hs : mT σ2 ps = (23, 16) := by rw [s3]; exact t2
    have k16 : k < 16 := by omega
    have e1 : l_X5_tells_2 K F (mP σ 1 8) c 4 (f + 1) (nI k) σ' = if L.2.1 k = c then (if r = 1 then (bq (g_X8_told_X9 F σ2 (mP σ ps k) 4) fun v11 σ10 => some (v11, σ10)) else l_X5_tells_2 K F (mP σ 1 8) c 4 f (nI (k + 1)) σ2) else l_X5_tells_2 K F (mP σ 1 8) c 4 f (nI (k + 1)) σ' := by
      rw [l_X5_tells_2.eq_2, gI_T hT, Option.bind_some, g1, h4, if_pos (nI_lt hkl (by omega)), gP_T hT, Option.bind_some, g2, b7, aI_T (by rw [hl]) (by rw [hl]; exact k16) (by rw [hl]; decide), Option.bind_some, l1, q1, gP_T hT, Option.bind_some, g2, b9, aP_T (by rw [hc]) (by rw [hc]; exact k16) (by rw [hc]; decide), Option.bind_some, c2, w1, bq_some, nI_1, gP_T hT2, Option.bind_some, m2, b8, aP_T (by rw [hs]) (by rw [hs]; exact k16) (by rw [hs]; decide), Option.bind_some, s2]
    have e2 : firstS L c (fC σ') (n + 1) k = if L.2.1 k = c ∧ L.2.2.1 k (fC σ') = true then some k else firstS L c (fC σ') n (k + 1) := rfl
    rw [e1, e2]
    by_cases u1 : L.2.1 k = c
    · by_cases u2 : r = 1
      · rw [if_pos u1, if_pos u2, if_pos ⟨u1, w3.mp u2⟩]
        obtain ⟨σ3, v1, v2⟩ := q3 (by rw [u1]; exact hc9)
        rw [v1, bq_some, w2.fC]
        exact ⟨σ3, w2.trans v2, rfl⟩
      · rw [if_pos u1, if_neg u2, if_neg (fun q => u2 (w3.mpr q.2))]
        obtain ⟨σ3, v1, v2⟩ := ih (k + 1) f σ2 (by omega) (by omega) (w2.kt g)
        rw [w2.fC] at v2
        exact ⟨σ3, w2.trans v1, v2⟩
    · rw [if_neg u1, if_neg (fun q => u1 q.1)]
      exact ih (k + 1) f σ' (by omega) (by omega) g
theorem e_X5_tells {c : Int32} (hc9 : c ≠ 115) (hC : CL σ L) (hF : 100000 ≤ F) (g : kt σ σ') : ∃ σ'', k4 σ' σ'' ∧ g_X5_tells F σ' (mP σ 1 8) c 4 = some (tellsS L c (fC σ'), σ'') := by
  have hT : mT σ' (mP σ 1 8) = (4, 4) := by rw [(g.2 _ hC.1 hC.2.1).2.2]; exact hC.2.2.1
  have h16 := hC.2.2.2.2.1
  unfold g_X5_tells
  rw [if_pos hT]
  obtain ⟨σ2, v1, v2⟩ := tells_loop hc9 hC hF (fun (σ8 : MM) => some (0, σ8)) L.1 0 F σ' (by omega) (by omega) g
  refine ⟨σ2, v1, v2.trans ?_⟩
  unfold tellsS
  cases firstS L c (fC σ') L.1 0 <;> rfl
theorem kp.cod {τ τ' τ'' : MM} (h : kp (fun a => a = 103) τ' τ'') (g : kcod τ τ') : kcod τ τ'' := ⟨h.ly g.1, by rw [h.2 85 (by decide)]; exact g.2.1, fun a h1 h2 => (h.2 a (by omega)).trans (g.2.2 a h1 h2)⟩
theorem kp.fm {τ τ' : MM} (h : kp (fun a => a = 103) τ τ') : fM τ' = fM τ := by
  unfold fM
  rw [h.2 104 (by decide)]
theorem any_loop {τ : MM} {c : Int32} (hM : ML τ L) (hF : 100000 ≤ F) (K : MM → Option (Int32 × MM)) : ∀ (n k f : Nat) (τ' : MM), k + n = L.1 → n < f → kcod τ τ' → ∃ τ'', kp (fun a => a = 103) τ' τ'' ∧ l_X6_holdsAny_2 K F 85 c f (nI k) τ' = (match firstS L c (fM τ') n k with | none => K τ'' | some _ => some (1, τ'')) := by
  obtain ⟨h4, h5, hk⟩ := hM
  intro n
  induction n with
  | zero =>
    intro k f σ' e hf g
    obtain ⟨f, rfl⟩ : ∃ f', f = f' + 1 := ⟨f - 1, by omega⟩
    have e0 : k = L.1 := by omega
    subst e0
    refine ⟨σ', kp.refl, ?_⟩
    rw [l_X6_holdsAny_2.eq_2, gI_T (T85 g.1), Option.bind_some, g.2.1, h4, if_neg (nI_nlt (Nat.le_refl _) (by omega))]
    rfl
  | succ n ih =>
    intro k f σ' e hf g
    obtain ⟨f, rfl⟩ : ∃ f', f = f' + 1 := ⟨f - 1, by omega⟩
    have hkl : k < L.1 := by omega
    obtain ⟨q1, ff, hh, tt, r1, r2, r3, q2⟩ := hk k hkl
    obtain ⟨⟨r, σ2, w1, w2, w3⟩, -⟩ := q2 F σ' hF g
    have l := g.1
    have k16 : k < 16 := by omega
    have a1 := congrFun (g.2.2 99 (by decide) (by decide)) k
    have a3 := congrFun (g.2.2 101 (by decide) (by decide)) k
    have a4 := congrFun (g.2.2 102 (by decide) (by decide)) k
    have e1 : l_X6_holdsAny_2 K F 85 c (f + 1) (nI k) σ' = if L.2.1 k = c then (if r = 1 then some (1, σ2) else l_X6_holdsAny_2 K F 85 c f (nI (k + 1)) σ2) else l_X6_holdsAny_2 K F 85 c f (nI (k + 1)) σ' := by
      rw [l_X6_holdsAny_2.eq_2, gI_T (T85 l), Option.bind_some, g.2.1, h4, if_pos (nI_lt hkl (by omega))]
      simp only [gI_T, gP_T, pI_T, pP_T, pZ_T, aI_T, aP_T, sI_T, sB_T, Option.bind_some, bq_some, jn_eq, nw_eq, mT_wI, mP_wI, mN_wI, Nat.reduceLT, T85 l, P85_24 l, P85_26 l, P85_27 l, T99 l, T101 l, T102 l, k16, a1, a3, a4, q1, r2, r3, w1, nI_1]
    have e2 : firstS L c (fM σ') (n + 1) k = if L.2.1 k = c ∧ L.2.2.1 k (fM σ') = true then some k else firstS L c (fM σ') n (k + 1) := rfl
    rw [e1, e2]
    by_cases u1 : L.2.1 k = c
    · by_cases u2 : r = 1
      · rw [if_pos u1, if_pos u2, if_pos ⟨u1, w3.mp u2⟩]
        exact ⟨σ2, w2, rfl⟩
      · rw [if_pos u1, if_neg u2, if_neg (fun q => u2 (w3.mpr q.2))]
        obtain ⟨σ3, v1, v2⟩ := ih (k + 1) f σ2 (by omega) (by omega) (w2.cod g)
        rw [w2.fm] at v2
        exact ⟨σ3, w2.trans v1, v2⟩
    · rw [if_neg u1, if_neg (fun q => u1 q.1)]
      exact ih (k + 1) f σ' (by omega) (by omega) g
theorem e_X6_holdsAny {τ τ' : MM} {c : Int32} (hM : ML τ L) (hF : 100000 ≤ F) (g : kcod τ τ') : ∃ τ'', kp (fun a => a = 103) τ' τ'' ∧ g_X6_holdsAny F τ' 85 c = some (saysS L c (fM τ'), τ'') := by
  have h16 := hM.2.1
  unfold g_X6_holdsAny
  rw [if_pos (T85 g.1)]
  obtain ⟨σ2, v1, v2⟩ := any_loop hM hF (c := c) (fun (σ8 : MM) => some (0, σ8)) L.1 0 F τ' (by omega) (by omega) g
  refine ⟨σ2, v1, v2.trans ?_⟩
  unfold saysS
  cases firstS L c (fM τ') L.1 0 <;> rfl
/-- within 0 .. most -/
def heldS (v most : Int32) : Int32 := jmax 0 (jmin most v)
theorem held_eq {v most : Int32} (h : ¬ most < 0) : heldS v most = if v < 0 then 0 else if most < v then most else v := by
  unfold heldS jmax jmin
  by_cases c1 : v < 0
  · rw [if_pos c1]
    have c2 : v < most := by
      rw [Int32.lt_iff_toInt_lt] at h c1 ⊢
      have : (0 : Int32).toInt = 0 := rfl
      omega
    rw [if_pos c2, if_neg (fun q => absurd (Int32.lt_trans q c1) (Int32.lt_irrefl))]
  · rw [if_neg c1]
    by_cases c2 : most < v
    · rw [if_neg (fun q => absurd (Int32.lt_trans q c2) (Int32.lt_irrefl)), if_pos c2]
      by_cases c3 : 0 < most
      · rw [if_pos c3]
      · rw [if_neg c3]
        apply Int32.toInt_inj.mp
        rw [Int32.lt_iff_toInt_lt] at h c3
        have : (0 : Int32).toInt = 0 := rfl
        omega
    · rw [if_neg c2]
      by_cases c4 : v < most
      · rw [if_pos c4]
        by_cases c3 : 0 < v
        · rw [if_pos c3]
        · rw [if_neg c3]
          apply Int32.toInt_inj.mp
          rw [Int32.lt_iff_toInt_lt] at c1 c3
          have : (0 : Int32).toInt = 0 := rfl
          omega
      · rw [if_neg c4]
        have e : most = v := by
          apply Int32.toInt_inj.mp
          rw [Int32.lt_iff_toInt_lt] at c2 c4
          omega
        subst e
        by_cases c3 : 0 < most
        · rw [if_pos c3]
        · rw [if_neg c3]
          apply Int32.toInt_inj.mp
          rw [Int32.lt_iff_toInt_lt] at h c3
          have : (0 : Int32).toInt = 0 := rfl
          omega
theorem by_loop {τ : MM} {c most : Int32} (hm : ¬ most < 0) (hc9 : c ≠ 115) (hM : ML τ L) (hF : 100000 ≤ F) (K : MM → Option (Int32 × MM)) : ∀ (n k f : Nat) (τ' : MM), k + n = L.1 → n < f → kcod τ τ' → ∃ τ'', kp (fun a => a = 103) τ' τ'' ∧ l_X6_byLaw_2 K F 85 c most f (nI k) τ' = (match firstS L c (fM τ') n k with | none => K τ'' | some j => some (heldS (L.2.2.2 j (fM τ')) most, τ'')) := by
  obtain ⟨h4, h5, hk⟩ := hM
  intro n
  induction n with
  | zero =>
    intro k f σ' e hf g
    obtain ⟨f, rfl⟩ : ∃ f', f = f' + 1 := ⟨f - 1, by omega⟩
    have e0 : k = L.1 := by omega
    subst e0
    refine ⟨σ', kp.refl, ?_⟩
    rw [l_X6_byLaw_2.eq_2, gI_T (T85 g.1), Option.bind_some, g.2.1, h4, if_neg (nI_nlt (Nat.le_refl _) (by omega))]
    rfl
  | succ n ih =>
    intro k f σ' e hf g
    obtain ⟨f, rfl⟩ : ∃ f', f = f' + 1 := ⟨f - 1, by omega⟩
    have hkl : k < L.1 := by omega
    obtain ⟨q1, ff, hh, tt, r1, r2, r3, q2⟩ := hk k hkl
    obtain ⟨⟨r, σ2, w1, w2, w3⟩, -⟩ := q2 F σ' hF g
    have g2 := w2.cod g
    obtain ⟨-, q3⟩ := q2 F σ2 hF g2
    have l := g.1
    have l2 := g2.1
    have k16 : k < 16 := by omega
    have a1 := congrFun (g.2.2 99 (by decide) (by decide)) k
    have a3 := congrFun (g.2.2 101 (by decide) (by decide)) k
    have a4 := congrFun (g.2.2 102 (by decide) (by decide)) k
    have d2 := congrFun (g2.2.2 100 (by decide) (by decide)) k
    have d3 := congrFun (g2.2.2 101 (by decide) (by decide)) k
    have e1 : l_X6_byLaw_2 K F 85 c most (f + 1) (nI k) σ' = if L.2.1 k = c then (if r = 1 then (bq (g_X6_comesTo F σ2 85 (nI ff) (nI hh)) fun v15 σ14 => if v15 < 0 then (some (0, σ14)) else (if most < v15 then (some (most, σ14)) else (some (v15, σ14)))) else l_X6_byLaw_2 K F 85 c most f (nI (k + 1)) σ2) else l_X6_byLaw_2 K F 85 c most f (nI (k + 1)) σ' := by
      rw [l_X6_byLaw_2.eq_2, gI_T (T85 l), Option.bind_some, g.2.1, h4, if_pos (nI_lt hkl (by omega))]
      simp only [gI_T, gP_T, pI_T, pP_T, pZ_T, aI_T, aP_T, sI_T, sB_T, Option.bind_some, bq_some, jn_eq, nw_eq, mT_wI, mP_wI, mN_wI, Nat.reduceLT, T85 l, P85_24 l, P85_26 l, P85_27 l, T99 l, T101 l, T102 l, k16, a1, a3, a4, q1, r2, r3, w1, nI_1, T85 l2, P85_25 l2, P85_26 l2, T100 l2, T101 l2, d2, d3, r1]
    have e2 : firstS L c (fM σ') (n + 1) k = if L.2.1 k = c ∧ L.2.2.1 k (fM σ') = true then some k else firstS L c (fM σ') n (k + 1) := rfl
    rw [e1, e2]
    by_cases u1 : L.2.1 k = c
    · by_cases u2 : r = 1
      · rw [if_pos u1, if_pos u2, if_pos ⟨u1, w3.mp u2⟩]
        obtain ⟨σ3, v1, v2⟩ := q3 (by rw [u1]; exact hc9)
        rw [v1, bq_some, w2.fm]
        refine ⟨σ3, w2.trans v2, ?_⟩
        (try dsimp only)
        rw [held_eq hm]
        by_cases x1 : L.2.2.2 k (fM σ') < 0
        · rw [if_pos x1, if_pos x1]
        · rw [if_neg x1, if_neg x1]
          by_cases x2 : most < L.2.2.2 k (fM σ')
          · rw [if_pos x2, if_pos x2]
          · rw [if_neg x2, if_neg x2]
      · rw [if_pos u1, if_neg u2, if_neg (fun q => u2 (w3.mpr q.2))]
        obtain ⟨σ3, v1, v2⟩ := ih (k + 1) f σ2 (by omega) (by omega) (w2.cod g)
        rw [w2.fm] at v2
        exact ⟨σ3, w2.trans v1, v2⟩
    · rw [if_neg u1, if_neg (fun q => u1 q.1)]
      exact ih (k + 1) f σ' (by omega) (by omega) g
theorem e_X6_byLaw {τ τ' : MM} {c most : Int32} (hm : ¬ most < 0) (hc9 : c ≠ 115) (hM : ML τ L) (hF : 100000 ≤ F) (g : kcod τ τ') : ∃ τ'', kp (fun a => a = 103) τ' τ'' ∧ g_X6_byLaw F τ' 85 c most = some (heldS (tellsS L c (fM τ')) most, τ'') := by
  have h16 := hM.2.1
  unfold g_X6_byLaw
  rw [if_pos (T85 g.1)]
  obtain ⟨σ2, v1, v2⟩ := by_loop hm hc9 hM hF (fun (σ8 : MM) => some (0, σ8)) L.1 0 F τ' (by omega) (by omega) g
  refine ⟨σ2, v1, v2.trans ?_⟩
  unfold tellsS
  cases firstS L c (fM τ') L.1 0 with
  | none =>
    have e : heldS 0 most = 0 := by
      rw [held_eq hm, if_neg (by decide), if_neg hm]
    (try dsimp only)
    rw [e]
  | some j => rfl
end LAW
