/-! ONE ROW: what the two programs answer -/
theorem owes_le {d : Nat → Nat → Nat} (h9 : b99 d) {a : Nat} (ha : a < 10) : owesS d a ≤ 990 := sm_le (M := 99) 10 (fun b hb => h9 a ha b hb)
theorem gets_le {d : Nat → Nat → Nat} (h9 : b99 d) {b : Nat} (hb : b < 10) : getsS d b ≤ 990 := sm_le (M := 99) 10 (fun a ha => h9 a ha b hb)
theorem owes_gets (d : Nat → Nat → Nat) : sm (owesS d) 10 = sm (getsS d) 10 := sm_swap (d := d) (m := 10) 10
theorem nI_subI (a b : Nat) : nI a - nI b = iI ((a : Int) - b) := by rw [nI_iI, nI_iI, iI_sub]
theorem off_one {x y : Nat} (hx : x ≤ 990) (hy : y ≤ 990) : nI x - nI y = 1 ↔ x = y + 1 := by
  rw [nI_subI, show (1 : Int32) = iI 1 from rfl, iI_eq (by omega) (by omega) (by omega) (by omega)]
  omega
theorem off_mone {x y : Nat} (hx : x ≤ 990) (hy : y ≤ 990) : nI x - nI y = -1 ↔ y = x + 1 := by
  rw [nI_subI, show (-1 : Int32) = iI (-1) from rfl, iI_eq (by omega) (by omega) (by omega) (by omega)]
  omega
theorem off_big {x y : Nat} (hx : x ≤ 990) (hy : y ≤ 990) : 1 < jabs (nI x - nI y) ↔ ¬ (x ≤ y + 1 ∧ y ≤ x + 1) := by
  rw [nI_subI, jabs_iI (by omega) (by omega), show (1 : Int32) = iI 1 from rfl, iI_lt (by omega) (by omega) (by omega) (by omega)]
  omega
def rowB (d : Nat → Nat → Nat) (p : Nat) : Prop := ∃ r, isReach d p r ∧ RowM (owesS d) (getsS d) r p
theorem rowB_iff {d : Nat → Nat → Nat} {p r : Nat} (hr : isReach d p r) : rowB d p ↔ RowM (owesS d) (getsS d) r p :=
  ⟨fun ⟨r', h1, h2⟩ => by rw [h1.uniq hr] at h2; exact h2, fun h => ⟨r, hr, h⟩⟩
section ROWE
variable {σ : MM} {Q F : Nat} {d : Nat → Nat → Nat}
theorem row_loopC {r p : Nat} (hB : isB σ Q) (hd : hasD σ Q d) (h9 : b99 d) (hF : 10 < F) (hr : r < 1024) (K : Int32 → Int32 → MM → Option (Int32 × MM)) :
    ((∀ a, a < 10 → (0 < owesS d a → r.testBit a = true) ∧ owesS d a ≤ getsS d a + 1 ∧ getsS d a ≤ owesS d a + 1) ∧ l_X4_areOneRow_14 K F Q (nI p) (nI r) F 0 0 0 σ = K (nI (cnt (fun a => decide (owesS d a = getsS d a + 1)) 10)) (nI (cnt (fun a => decide (getsS d a = owesS d a + 1)) 10)) σ)
    ∨ (l_X4_areOneRow_14 K F Q (nI p) (nI r) F 0 0 0 σ = some (0, σ) ∧ ¬ ∀ a, a < 10 → (0 < owesS d a → r.testBit a = true) ∧ owesS d a ≤ getsS d a + 1 ∧ getsS d a ≤ owesS d a + 1) := by
  rcases yl2X (α := Int32 × Int32) (fun f v z τ => l_X4_areOneRow_14 K F Q (nI p) (nI r) f v.1 v.2 z τ) (fun v τ => K v.1 v.2 τ) (fun i v τ => τ = σ ∧ v = (nI (cnt (fun a => decide (owesS d a = getsS d a + 1)) i), nI (cnt (fun a => decide (getsS d a = owesS d a + 1)) i)) ∧ ∀ a, a < i → (0 < owesS d a → r.testBit a = true) ∧ owesS d a ≤ getsS d a + 1 ∧ getsS d a ≤ owesS d a + 1)
    (fun o => o = some (0, σ) ∧ ¬ ∀ a, a < 10 → (0 < owesS d a → r.testBit a = true) ∧ owesS d a ≤ getsS d a + 1 ∧ getsS d a ≤ owesS d a + 1) 10 (by
    intro f i v τ hi ⟨e1, e2, hh⟩
    subst e1; subst e2
    have hx := owes_le h9 hi
    have hy := gets_le h9 hi
    (try dsimp only)
    rw [l_X4_areOneRow_14.eq_2, if_pos (ten_in hi)]
    simp only [e_X4_owes hB hd hi hF, e_X4_gets hB hd hi hF, bq_some, jn_eq, off_big hx hy, off_one hx hy, off_mone hx hy, nI_gt0 (Nat.lt_of_le_of_lt hx (by decide)), e_has (Nat.lt_trans hr (by decide)) (Nat.lt_trans hi (by decide))]
    by_cases c1 : owesS d i ≤ getsS d i + 1 ∧ getsS d i ≤ owesS d i + 1
    · by_cases c2 : 0 < owesS d i → r.testBit i = true
      · left
        refine ⟨_, τ, ⟨rfl, rfl, fun a ha => ?_⟩, ?_⟩
        · by_cases e : a = i
          · subst e; exact ⟨c2, c1⟩
          · exact hh a (by omega)
        · rw [if_neg (fun q => q c1), nI_1]
          have e1 : ∀ n, cnt (fun a => decide (owesS d a = getsS d a + 1)) (n + 1) = cnt (fun a => decide (owesS d a = getsS d a + 1)) n + (if decide (owesS d n = getsS d n + 1) = true then 1 else 0) := fun n => rfl
          have e2 : ∀ n, cnt (fun a => decide (getsS d a = owesS d a + 1)) (n + 1) = cnt (fun a => decide (getsS d a = owesS d a + 1)) n + (if decide (getsS d n = owesS d n + 1) = true then 1 else 0) := fun n => rfl
          rw [e1, e2]
          have f1 : nI (cnt (fun a => decide (owesS d a = getsS d a + 1)) i) + 1 = nI (cnt (fun a => decide (owesS d a = getsS d a + 1)) i + 1) := nI_1 _
          have f2 : nI (cnt (fun a => decide (getsS d a = owesS d a + 1)) i) + 1 = nI (cnt (fun a => decide (getsS d a = owesS d a + 1)) i + 1) := nI_1 _
          have f0 : ∀ n, nI n + 0 = nI n := fun n => Int32.add_zero _
          by_cases c0 : 0 < owesS d i
          · rw [if_pos c0, if_pos (c2 c0), if_neg (by decide)]
            rcases Classical.em (owesS d i = getsS d i + 1) with c3 | c3 <;> rcases Classical.em (getsS d i = owesS d i + 1) with c4 | c4 <;> (first | (exfalso; omega) | ((first | replace c3 := eq_false c3 | replace c3 := eq_true c3); (first | replace c4 := eq_false c4 | replace c4 := eq_true c4); simp only [c3, c4, if_true, if_false, decide_true, decide_false, nI_1, f0, Nat.add_zero, Bool.false_eq_true]))
          · rw [if_neg c0]
            rcases Classical.em (owesS d i = getsS d i + 1) with c3 | c3 <;> rcases Classical.em (getsS d i = owesS d i + 1) with c4 | c4 <;> (first | (exfalso; omega) | ((first | replace c3 := eq_false c3 | replace c3 := eq_true c3); (first | replace c4 := eq_false c4 | replace c4 := eq_true c4); simp only [c3, c4, if_true, if_false, decide_true, decide_false, nI_1, f0, Nat.add_zero, Bool.false_eq_true]))
      · right
        have c0 : 0 < owesS d i := by
          apply Classical.byContradiction
          intro q
          exact c2 (fun h => absurd h q)
        have c3 : ¬ r.testBit i = true := fun q => c2 (fun _ => q)
        rw [if_neg (fun q => q c1), if_pos c0, if_neg c3, if_pos rfl]
        exact ⟨rfl, fun h => c2 (h i hi).1⟩
    · right
      rw [if_pos c1]
      exact ⟨rfl, fun h => c1 (h i hi).2⟩) (by
    intro f v τ _
    (try dsimp only)
    rw [l_X4_areOneRow_14.eq_2, if_neg ten_no]) hF (v := (0, 0)) (σ := σ) ⟨rfl, rfl, fun a ha => absurd ha (by omega)⟩ with ⟨v, τ, ⟨e1, e2, hh⟩, he⟩ | h
  · subst e1; subst e2
    exact Or.inl ⟨hh, he⟩
  · exact Or.inr h
/-- the component's answer -/
theorem e_X4_areOneRow {p : Nat} (hB : isB σ Q) (hd : hasD σ Q d) (h9 : b99 d) (hp : p < 10) (hF : 1100 < F) : ∃ z : Bool, g_X4_areOneRow F σ Q (nI p) = some (if z = true then 1 else 0, σ) ∧ (z = true ↔ rowB d p) := by
  obtain ⟨r, hr, er⟩ := e_X4_reach hB hd h9 hp hF
  rw [show (∃ z : Bool, g_X4_areOneRow F σ Q (nI p) = some (if z = true then 1 else 0, σ) ∧ (z = true ↔ rowB d p)) = (∃ z : Bool, g_X4_areOneRow F σ Q (nI p) = some (if z = true then 1 else 0, σ) ∧ (z = true ↔ RowC (owesS d) (getsS d) r p)) from by rw [rowB_iff hr, row_eq hp (owes_gets d)]]
  unfold g_X4_areOneRow
  rw [if_pos hB.1, er, bq_some]
  have hx := owes_le h9 hp
  have hy := gets_le h9 hp
  rcases row_loopC hB hd h9 (by omega : 10 < F) hr.1 (p := p) (fun (r3_22 : Int32) (r4_23 : Int32) (σ21 : MM) => if r3_22 = 0 then (some (1, σ21)) else (if r3_22 = 1 then (if r4_23 = 1 then (bq (g_X4_owes F σ21 Q (nI p)) fun v25 σ24 => bq (g_X4_gets F σ24 Q (nI p)) fun v27 σ26 => if (v25 - v27) = 1 then (some (1, σ26)) else (some (0, σ26))) else (some (0, σ21))) else (some (0, σ21)))) with ⟨h1, h2⟩ | ⟨h1, h2⟩
  · rw [h2]
    have k1 := cnt_le (p := fun a => decide (owesS d a = getsS d a + 1)) 10
    have k2 := cnt_le (p := fun a => decide (getsS d a = owesS d a + 1)) 10
    simp only [e_X4_owes hB hd hp (by omega : 10 < F), e_X4_gets hB hd hp (by omega : 10 < F), bq_some, off_one hx hy]
    generalize hn1 : cnt (fun a => decide (owesS d a = getsS d a + 1)) 10 = n1 at k1 ⊢
    generalize hn2 : cnt (fun a => decide (getsS d a = owesS d a + 1)) 10 = n2 at k2 ⊢
    have q0 : nI n1 = 0 ↔ n1 = 0 := nI_eq (b := 0) (by omega) (by decide)
    have q1 : nI n1 = 1 ↔ n1 = 1 := nI_eq (b := 1) (by omega) (by decide)
    have q2 : nI n2 = 1 ↔ n2 = 1 := nI_eq (b := 1) (by omega) (by decide)
    simp only [q0, q1, q2]
    have hR : RowC (owesS d) (getsS d) r p ↔ (n1 = 0 ∨ (n1 = 1 ∧ n2 = 1 ∧ owesS d p = getsS d p + 1)) := by
      unfold RowC
      rw [hn1, hn2]
      exact ⟨fun h => h.2, fun h => ⟨h1, h⟩⟩
    by_cases c0 : n1 = 0
    · exact ⟨true, by rw [if_pos c0]; rfl, by rw [hR]; exact ⟨fun _ => Or.inl c0, fun _ => rfl⟩⟩
    · rw [if_neg c0]
      by_cases c1 : n1 = 1 ∧ n2 = 1 ∧ owesS d p = getsS d p + 1
      · exact ⟨true, by rw [if_pos c1.1, if_pos c1.2.1, if_pos c1.2.2]; rfl, by rw [hR]; exact ⟨fun _ => Or.inr c1, fun _ => rfl⟩⟩
      · refine ⟨false, ?_, by rw [hR]; exact ⟨fun h => (by cases h), fun h => absurd (h.resolve_left c0) c1⟩⟩
        by_cases u1 : n1 = 1
        · by_cases u2 : n2 = 1
          · rw [if_pos u1, if_pos u2, if_neg (fun q => c1 ⟨u1, u2, q⟩)]; rfl
          · rw [if_pos u1, if_neg u2]; rfl
        · rw [if_neg u1]; rfl
  · exact ⟨false, h1, ⟨fun h => by (cases h), fun h => absurd h.1 h2⟩⟩
/-- the model's sums -/
theorem row_sums {a : Nat} (l : lay σ) (hd : hasL σ 110 d) (ha : a < 10) (hF : 10 < F) {x1 x2 x3 x4 : Int32} (K : Int32 → Int32 → MM → Option (Int32 × MM)) : l_X6_isRow_30 K F 85 x1 x2 x3 x4 (nI a) F 0 0 0 σ = K (nI (owesS d a)) (nI (getsS d a)) σ :=
  ylv (α := Int32 × Int32) (fun f v z τ => l_X6_isRow_30 K F 85 x1 x2 x3 x4 (nI a) f v.1 v.2 z τ) (fun v τ => K v.1 v.2 τ) (fun k => (nI (sm (fun b => d a b) k), nI (sm (fun b => d b a) k))) σ 10 (fun f i hi => by
    (try dsimp only)
    rw [l_X6_isRow_30.eq_2, if_pos (ten_in hi), e_X6_leftOf l hd ha hi, bq_some, e_X6_leftOf l hd hi ha, bq_some, nI_add, nI_add, nI_1]
    rfl) (fun f => by
    (try dsimp only)
    rw [l_X6_isRow_30.eq_2, if_neg ten_no]) hF
theorem lt_nI {a b : Nat} (ha : a < 2147483648) (hb : b < 2147483648) : nI a < nI b ↔ a < b := nI_ltI ha hb
theorem row_loopM {r p : Nat} (l : lay σ) (hd : hasL σ 110 d) (h9 : b99 d) (hF : 10 < F) (hr : r < 1024) (hp : p < 10) (K : Int32 → Int32 → MM → Option (Int32 × MM)) :
    ((∀ a, a < 10 → (0 < owesS d a → r.testBit a = true) ∧ owesS d a ≤ getsS d a + 1) ∧ l_X6_isRow_14 K F 85 (nI p) (nI r) F 0 0 0 σ = K (nI (cnt (fun a => decide (getsS d a < owesS d a)) 10)) (nI (owesS d p) - nI (getsS d p)) σ)
    ∨ (l_X6_isRow_14 K F 85 (nI p) (nI r) F 0 0 0 σ = some (0, σ) ∧ ¬ ∀ a, a < 10 → (0 < owesS d a → r.testBit a = true) ∧ owesS d a ≤ getsS d a + 1) := by
  rcases yl2X (α := Int32 × Int32) (fun f v z τ => l_X6_isRow_14 K F 85 (nI p) (nI r) f v.1 v.2 z τ) (fun v τ => K v.1 v.2 τ) (fun i v τ => τ = σ ∧ v = (nI (cnt (fun a => decide (getsS d a < owesS d a)) i), if p < i then nI (owesS d p) - nI (getsS d p) else 0) ∧ ∀ a, a < i → (0 < owesS d a → r.testBit a = true) ∧ owesS d a ≤ getsS d a + 1)
    (fun o => o = some (0, σ) ∧ ¬ ∀ a, a < 10 → (0 < owesS d a → r.testBit a = true) ∧ owesS d a ≤ getsS d a + 1) 10 (by
    intro f i v τ hi ⟨e1, e2, hh⟩
    subst e1; subst e2
    have hx := owes_le h9 hi
    have hy := gets_le h9 hi
    (try dsimp only)
    rw [l_X6_isRow_14.eq_2, if_pos (ten_in hi), row_sums l hd hi hF]
    simp only [jn_eq, nI_1, lt_nI (Nat.lt_of_le_of_lt hy (by decide) : getsS d i < 2147483648) (Nat.lt_of_le_of_lt hx (by decide) : owesS d i < 2147483648), lt_nI (by omega : getsS d i + 1 < 2147483648) (Nat.lt_of_le_of_lt hx (by decide) : owesS d i < 2147483648), nI_gt0 (Nat.lt_of_le_of_lt hx (by decide)), e_hasM (Nat.lt_trans hr (by decide)) (Nat.lt_trans hi (by decide)), bq_some, nI_eq (Nat.lt_trans hi (by decide)) (Nat.lt_trans hp (by decide))]
    by_cases c2 : 0 < owesS d i → r.testBit i = true
    · by_cases c1 : owesS d i ≤ getsS d i + 1
      · left
        refine ⟨_, τ, ⟨rfl, rfl, fun a ha => ?_⟩, ?_⟩
        · by_cases e : a = i
          · subst e; exact ⟨c2, c1⟩
          · exact hh a (by omega)
        · have e1 : cnt (fun a => decide (getsS d a < owesS d a)) (i + 1) = cnt (fun a => decide (getsS d a < owesS d a)) i + (if decide (getsS d i < owesS d i) = true then 1 else 0) := rfl
          have c1' : ¬ getsS d i + 1 < owesS d i := by omega
          have e3 : ∀ u : Int32 × Int32, (if 0 < owesS d i then if (if r.testBit i = true then (1 : Int32) else 0) = 0 then some ((0 : Int32), τ) else l_X6_isRow_14 K F 85 (nI p) (nI r) f u.1 u.2 (nI (i + 1)) τ else l_X6_isRow_14 K F 85 (nI p) (nI r) f u.1 u.2 (nI (i + 1)) τ) = l_X6_isRow_14 K F 85 (nI p) (nI r) f u.1 u.2 (nI (i + 1)) τ := by
            intro u
            by_cases c0 : 0 < owesS d i
            · rw [if_pos c0, if_pos (c2 c0), if_neg (by decide)]
            · rw [if_neg c0]
          have eA : cnt (fun a => decide (getsS d a < owesS d a)) (i + 1) = (if getsS d i < owesS d i then cnt (fun a => decide (getsS d a < owesS d a)) i + 1 else cnt (fun a => decide (getsS d a < owesS d a)) i) := by
            rw [e1]
            by_cases c : getsS d i < owesS d i
            · rw [if_pos c, if_pos (decide_eq_true c)]
            · rw [if_neg c, if_neg (fun q => c (of_decide_eq_true q)), Nat.add_zero]
          have eB : (if p < i + 1 then nI (owesS d p) - nI (getsS d p) else 0) = (if i = p then nI (owesS d i) - nI (getsS d i) else if p < i then nI (owesS d p) - nI (getsS d p) else 0) := by
            by_cases c : i = p
            · subst c
              rw [if_pos (Nat.lt_succ_self i), if_pos rfl]
            · by_cases c2 : p < i
              · rw [if_pos (Nat.lt_succ_of_lt c2), if_neg c, if_pos c2]
              · rw [if_neg (by omega), if_neg c, if_neg c2]
          rw [eA, eB]
          generalize (if p < i then nI (owesS d p) - nI (getsS d p) else 0) = m
          by_cases c4 : i = p
          · subst c4
            by_cases c3 : getsS d i < owesS d i <;> simp only [c1', c3, if_true, if_false] <;> exact e3 (_, _)
          · by_cases c3 : getsS d i < owesS d i <;> simp only [c1', c3, c4, if_true, if_false] <;> exact e3 (_, _)
      · right
        have c1' : getsS d i + 1 < owesS d i := by omega
        have c0 : 0 < owesS d i := by omega
        rw [if_pos c0, if_pos (c2 c0), if_neg (by decide), if_pos c1']
        exact ⟨rfl, fun h => c1 (h i hi).2⟩
    · right
      have c0 : 0 < owesS d i := by
        apply Classical.byContradiction
        intro q
        exact c2 (fun h => absurd h q)
      have c3 : ¬ r.testBit i = true := fun q => c2 (fun _ => q)
      rw [if_pos c0, if_neg c3, if_pos rfl]
      exact ⟨rfl, fun h => c2 (h i hi).1⟩) (by
    intro f v τ _
    (try dsimp only)
    rw [l_X6_isRow_14.eq_2, if_neg ten_no]) hF (v := (0, 0)) (σ := σ) ⟨rfl, rfl, fun a ha => absurd ha (by omega)⟩ with ⟨v, τ, ⟨e1, e2, hh⟩, he⟩ | h
  · subst e1; subst e2
    rw [if_pos hp] at he
    exact Or.inl ⟨hh, he⟩
  · exact Or.inr h
/-- the model's answer -/
theorem e_X6_isRow {p : Nat} (l : lay σ) (hd : hasL σ 110 d) (h9 : b99 d) (hp : p < 10) (hF : 1100 < F) : ∃ z : Bool, g_X6_isRow F σ 85 (nI p) = some (if z = true then 1 else 0, σ) ∧ (z = true ↔ rowB d p) := by
  obtain ⟨r, hr, er⟩ := e_X6_reachLeft l hd h9 hp hF
  rw [show (∃ z : Bool, g_X6_isRow F σ 85 (nI p) = some (if z = true then 1 else 0, σ) ∧ (z = true ↔ rowB d p)) = (∃ z : Bool, g_X6_isRow F σ 85 (nI p) = some (if z = true then 1 else 0, σ) ∧ (z = true ↔ RowM (owesS d) (getsS d) r p)) from by rw [rowB_iff hr]]
  unfold g_X6_isRow
  rw [if_pos (T85 l), er, bq_some]
  have hx := owes_le h9 hp
  have hy := gets_le h9 hp
  rcases row_loopM l hd h9 (by omega : 10 < F) hr.1 hp (fun (r3_18 : Int32) (r4_19 : Int32) (σ17 : MM) => jn (fun (σ20 : MM) => if r3_18 = 1 then (if r4_19 = 1 then (some (1, σ20)) else (some (0, σ20))) else (some (0, σ20))) (fun k21 => if r3_18 = 0 then (if r4_19 = 0 then (some (1, σ17)) else (k21 σ17)) else (k21 σ17))) with ⟨h1, h2⟩ | ⟨h1, h2⟩
  · rw [h2]
    have k1 := cnt_le (p := fun a => decide (getsS d a < owesS d a)) 10
    have q3 : nI (owesS d p) - nI (getsS d p) = 0 ↔ owesS d p = getsS d p := by
      rw [nI_subI, show (0 : Int32) = iI 0 from rfl, iI_eq (by omega) (by omega) (by omega) (by omega)]
      omega
    simp only [jn_eq, off_one hx hy, q3]
    have hR : RowM (owesS d) (getsS d) r p ↔ ((cnt (fun a => decide (getsS d a < owesS d a)) 10 = 0 ∧ owesS d p = getsS d p) ∨ (cnt (fun a => decide (getsS d a < owesS d a)) 10 = 1 ∧ owesS d p = getsS d p + 1)) := ⟨fun h => h.2, fun h => ⟨h1, h⟩⟩
    rw [hR]
    generalize cnt (fun a => decide (getsS d a < owesS d a)) 10 = n1 at k1 ⊢
    have q0 : nI n1 = 0 ↔ n1 = 0 := nI_eq (b := 0) (by omega) (by decide)
    have q1 : nI n1 = 1 ↔ n1 = 1 := nI_eq (b := 1) (by omega) (by decide)
    simp only [q0, q1]
    by_cases c : (n1 = 0 ∧ owesS d p = getsS d p) ∨ (n1 = 1 ∧ owesS d p = getsS d p + 1)
    · refine ⟨true, ?_, fun _ => c, fun _ => rfl⟩
      rcases c with ⟨c1, c2⟩ | ⟨c1, c2⟩
      · rw [if_pos c1, if_pos c2]; rfl
      · rw [if_neg (by omega), if_pos c1, if_pos c2]; rfl
    · refine ⟨false, ?_, fun h => (by cases h), fun h => absurd h c⟩
      by_cases u0 : n1 = 0
      · rw [if_pos u0, if_neg (fun q => c (Or.inl ⟨u0, q⟩)), if_neg (by omega)]; rfl
      · rw [if_neg u0]
        by_cases u1 : n1 = 1
        · rw [if_pos u1, if_neg (fun q => c (Or.inr ⟨u1, q⟩))]; rfl
        · rw [if_neg u1]; rfl
  · exact ⟨false, h1, ⟨fun h => by (cases h), fun h => absurd h.1 h2⟩⟩
end ROWE
