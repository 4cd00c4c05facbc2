/-! THE MOST IN A ROW -/
def mxl (f : Nat → Nat) : Nat → Nat
  | 0 => 0
  | k + 1 => max (mxl f k) (f k)
def bst (f : Nat → Nat) : Nat → Nat
  | 0 => 0
  | k + 1 => if mxl f k < f k then k else bst f k
theorem mxl_s {f : Nat → Nat} {k : Nat} : mxl f (k + 1) = max (mxl f k) (f k) := rfl
theorem mxl_ge {f : Nat → Nat} {b : Nat} : ∀ k, b < k → f b ≤ mxl f k
  | 0, h => absurd h (Nat.not_lt_zero b)
  | k + 1, h => by
    rw [mxl_s]
    by_cases c : b = k
    · subst c; exact Nat.le_max_right _ _
    · exact Nat.le_trans (mxl_ge k (by omega)) (Nat.le_max_left _ _)
theorem mxl_le {f : Nat → Nat} {M : Nat} : ∀ k, (∀ b, b < k → f b ≤ M) → mxl f k ≤ M
  | 0, _ => Nat.zero_le _
  | k + 1, h => by
    rw [mxl_s]
    exact Nat.max_le.mpr ⟨mxl_le k (fun b hb => h b (by omega)), h k (by omega)⟩
theorem mxl_congr {f g : Nat → Nat} : ∀ k, (∀ b, b < k → f b = g b) → mxl f k = mxl g k
  | 0, _ => rfl
  | k + 1, h => by rw [mxl_s, mxl_s, mxl_congr k (fun b hb => h b (by omega)), h k (by omega)]
theorem bst_congr {f g : Nat → Nat} : ∀ k, (∀ b, b < k → f b = g b) → bst f k = bst g k
  | 0, _ => rfl
  | k + 1, h => by
    show (if mxl f k < f k then k else bst f k) = (if mxl g k < g k then k else bst g k)
    rw [mxl_congr k (fun b hb => h b (by omega)), h k (by omega), bst_congr k (fun b hb => h b (by omega))]
/-- the first of the greatest -/
theorem bst_is {f : Nat → Nat} : ∀ k, 0 < mxl f k → bst f k < k ∧ f (bst f k) = mxl f k ∧ ∀ b, b < bst f k → f b < mxl f k
  | 0, h => absurd h (Nat.lt_irrefl 0)
  | k + 1, h => by
    have e : bst f (k + 1) = if mxl f k < f k then k else bst f k := rfl
    rw [e, mxl_s]
    by_cases c : mxl f k < f k
    · rw [if_pos c, Nat.max_eq_right (by omega)]
      refine ⟨by omega, rfl, fun b hb => ?_⟩
      have := mxl_ge (f := f) k hb
      omega
    · rw [if_neg c, Nat.max_eq_left (by omega)]
      rw [mxl_s, Nat.max_eq_left (by omega)] at h
      have ih := bst_is k h
      exact ⟨by omega, ih.2⟩
def mx : Nat → (Nat → Nat → Nat) → Nat → Nat
  | 0, _, _ => 0
  | n + 1, d, p => mxl (fun b => if 0 < d p b then 1 + mx n (decD d p b) b else 0) 10
def fS (n : Nat) (d : Nat → Nat → Nat) (p b : Nat) : Nat := if 0 < d p b then 1 + mx n (decD d p b) b else 0
theorem mx_s {n : Nat} {d : Nat → Nat → Nat} {p : Nat} : mx (n + 1) d p = mxl (fS n d p) 10 := rfl
abbrev MS : Type := Nat × (Nat → Nat → Nat) × Nat
def stpM (x : MS) : MS := (x.1 - 1, decD x.2.1 x.2.2 (bst (fS (x.1 - 1) x.2.1 x.2.2) 10), bst (fS (x.1 - 1) x.2.1 x.2.2) 10)
def itM : Nat → MS → MS
  | 0, x => x
  | j + 1, x => itM j (stpM x)
theorem itM_s : ∀ j x, itM (j + 1) x = stpM (itM j x)
  | 0, x => rfl
  | j + 1, x => by
    show itM (j + 1) (stpM x) = stpM (itM j (stpM x))
    exact itM_s j (stpM x)
def pthM (x : MS) (j : Nat) : Nat := (itM (j + 1) x).2.2
theorem all0 {d : Nat → Nat → Nat} (h : allS d = 0) {a b : Nat} (ha : a < 10) (hb : b < 10) : d a b = 0 := by
  have h1 := sm_ge (f := owesS d) (k := a) 10 ha
  have h2 := sm_ge (f := fun b => d a b) (k := b) 10 hb
  have e1 : sm (owesS d) 10 = 0 := h
  have e2 : owesS d a = sm (fun b => d a b) 10 := rfl
  have e3 : (fun b => d a b) b = d a b := rfl
  omega
/-- the way that begins with b -/
def qthM (n : Nat) (d : Nat → Nat → Nat) (b p : Nat) : Nat → Nat
  | 0 => b
  | j + 1 => pthM (n, decD d p b, b) j
theorem pth_q {n : Nat} {d : Nat → Nat → Nat} {p : Nat} : ∀ j, pthM (n + 1, d, p) j = qthM n d (bst (fS n d p) 10) p j
  | 0 => rfl
  | _ + 1 => rfl
theorem mx_le : ∀ n d p, mx n d p ≤ n
  | 0, _, _ => Nat.le_refl 0
  | n + 1, d, p => by
    rw [mx_s]
    refine mxl_le 10 (fun b _ => ?_)
    unfold fS
    have := mx_le n (decD d p b) b
    split <;> omega
seal mx
section MOST
variable {B F : Nat} {G : GG}
def rMo (x y : Nat) : Prop := (57 ≤ x ∧ x ≤ 68) ∨ (x = 1 ∧ y = 15)
theorem rMo_rSC (x y : Nat) (h : rMo x y) : rSC x y := by
  unfold rMo at h
  unfold rSC
  omega
theorem j67 {σ : MM} (l : lay σ) : gP σ 1 0 22 13 = some 67 := by rw [gP_T (T1 l), P1_13 l]
theorem j68 {σ : MM} (l : lay σ) : gP σ 1 0 22 14 = some 68 := by rw [gP_T (T1 l), P1_14 l]
theorem jG {σ : MM} {A k : Nat} (l : lay σ) (hA : A = 67 ∨ A = 68) (hk : k < 60) : aI σ A 20 (nI k) = some (mI σ A k) := by
  have h : mT σ A = (20, 60) := by rcases hA with e | e <;> subst e <;> first | exact T67 l | exact T68 l
  exact aI_T (by rw [h]) (by rw [h]; exact hk) (by rw [h]; decide)
theorem jS {σ : MM} {A k : Nat} {v : Int32} (l : lay σ) (hA : A = 67 ∨ A = 68) (hk : k < 60) : sI σ A (nI k) v = some (wI σ A k v) := by
  have h : mT σ A = (20, 60) := by rcases hA with e | e <;> subst e <;> first | exact T67 l | exact T68 l
  exact sI_T (by rw [h]) (by rw [h]; exact hk) (by rw [h]; decide)
/-- the row kept -/
theorem keep_row {σ : MM} {k : Nat} (l : lay σ) (hk : k < 60) (hF : 100000 ≤ F) (rec : MM → Nat → Int32 → Int32 → Option (MM)) (K : MM → Option MM) (x1 : Int32) : ∃ σ', kj (fun x _ => x = 68) σ σ' ∧ (∀ i, i < k → mI σ' 68 i = mI σ 67 i) ∧ l_X0_longest_15 rec K F 1 x1 (nI k) F 0 σ = K σ' := by
  obtain ⟨s, ⟨k1, h1⟩, e1⟩ := yl1 (l_X0_longest_15 rec K F 1 x1 (nI k)) K (fun i s => kj (fun x _ => x = 68) σ s ∧ ∀ j, j < i → mI s 68 j = mI σ 67 j) k (by
    intro f i s hi ⟨k1, h1⟩
    have ls := k1.ly l
    refine ⟨wI s 68 i (mI σ 67 i), ⟨k1.trans (kj.w rfl), fun j hj => ?_⟩, ?_⟩
    · by_cases c : j = i
      · subst c; exact mI_ws
      · rw [mI_wy c]; exact h1 j (by omega)
    · rw [l_X0_longest_15.eq_2, if_pos (nI_lt hi (by omega)), j68 ls, Option.bind_some, j67 ls, Option.bind_some, jG ls (Or.inl rfl) (by omega), Option.bind_some, k1.2 67 i (by omega), jS ls (Or.inr rfl) (by omega), Option.bind_some, nI_1]) (by
    intro f s _
    rw [l_X0_longest_15.eq_2, if_neg (nI_nlt (Nat.le_refl _) (by omega))]) (f := F) (by omega) ⟨kj.refl, fun j hj => absurd hj (Nat.not_lt_zero j)⟩
  exact ⟨s, k1, h1, e1⟩
/-- what stands after the search -/
def postM (σ σ' : MM) (k B0 v : Nat) (pt : Nat → Nat) : Prop := mI σ' 1 15 = nI (max B0 (k + v)) ∧ (B0 < k + v → (∀ i, i < k → mI σ' 68 i = mI σ 67 i) ∧ ∀ j, j < v → mI σ' 68 (k + j) = nI (pt j)) ∧ (¬ B0 < k + v → ∀ i, i < B0 → mI σ' 68 i = mI σ 68 i)
theorem dfs_C (hF : 100000 ≤ F) : ∀ (n : Nat) (d : Nat → Nat → Nat) (at_ k f : Nat) (σ : MM) (B0 : Nat), allS d = n → b99 d → at_ < 10 → k + n ≤ 12 → n < f → B0 ≤ 12 → lay σ → hasD σ 55 d → mI σ 1 15 = nI B0 → ∃ σ', r_X0_longest F f σ 1 (nI at_) (nI k) = some σ' ∧ kj rMo σ σ' ∧ hasD σ' 55 d ∧ (∀ i, i < k → mI σ' 67 i = mI σ 67 i) ∧ postM σ σ' k B0 (mx n d at_) (pthM (n, d, at_)) := by
  intro n
  induction n with
  | zero =>
    intro d at_ k f σ B0 hn h9 ha hk hf hB l hd hb
    obtain ⟨f, rfl⟩ : ∃ g, f = g + 1 := ⟨f - 1, by omega⟩
    show ∃ σ', s_X0_longest F (r_X0_longest F f) σ 1 (nI at_) (nI k) = some σ' ∧ _
    unfold s_X0_longest
    rw [if_pos (T1 l), gI_T (T1 l), Option.bind_some, hb]
    dsimp only [jn]
    have m0 : mx 0 d at_ = 0 := mx.eq_1 _ _
    rw [m0]
    have loop : ∀ s, lay s → hasD s 55 d → l_X0_longest_40 (r_X0_longest F f) (fun (σ21 : MM) => some σ21) F 1 (nI at_) (nI k) F 0 s = some s := by
      intro s0 l0 d0
      obtain ⟨s9, e, e9⟩ := yl1 (l_X0_longest_40 (r_X0_longest F f) (fun (σ21 : MM) => some σ21) F 1 (nI at_) (nI k)) (fun (σ21 : MM) => some σ21) (fun _ s => s = s0) 10 (by
        intro g m s hm e
        subst e
        have dv : mI s (57 + at_) m = nI 0 := by
          have : mI s (57 + at_) m = nI (d at_ m) := d0 at_ ha m hm
          rw [this, all0 hn ha hm]
        rw [l_X0_longest_40.eq_2, if_pos (ten_in hm)]
        simp only [kO l0, kO2 l0, kR l0 ha, kG l0 ha hm, Option.bind_some, dv]
        rw [if_pos (show nI 0 = 0 from rfl), nI_1 m]
        exact ⟨s, rfl, rfl⟩) (by
        intro g s _
        rw [l_X0_longest_40.eq_2, if_neg ten_no]) (f := F) (by omega) rfl
      rw [e9, e]
    by_cases c : B0 < k
    · have k1 : kj rMo σ (wI σ 1 15 (nI k)) := kj.w (Or.inr ⟨rfl, rfl⟩)
      obtain ⟨s1, k2, h2, e2⟩ := keep_row (F := F) (k := k) (k1.ly l) (by omega) hF (r_X0_longest F f) (fun (σ27 : MM) => l_X0_longest_40 (r_X0_longest F f) (fun (σ21 : MM) => some σ21) F 1 (nI at_) (nI k) F 0 σ27) (nI at_)
      have d1 : hasD s1 55 d := fun x hx y hy => by rw [k2.2 _ _ (by omega), mI_wn (by omega)]; exact hd x hx y hy
      rw [if_pos (nI_lt c (by omega)), pI_T (T1 l), Option.bind_some, e2, loop s1 (k2.ly (k1.ly l)) d1]
      refine ⟨s1, rfl, k1.trans (k2.mono (fun x y q => by have q : x = 68 := q; unfold rMo; omega)), d1, (fun i hi => ?_), ⟨?_, fun _ => ⟨fun i hi => ?_, fun j hj => absurd hj (Nat.not_lt_zero j)⟩, fun q => absurd c (by omega)⟩⟩
      · rw [k2.2 _ _ (by omega), mI_wn (by omega)]
      · rw [k2.2 _ _ (by omega), mI_ws]; congr 1; omega
      · rw [h2 i hi, mI_wn (by omega)]
    · rw [if_neg (nI_nlt (by omega) (by omega)), loop σ l hd]
      exact ⟨σ, rfl, kj.refl, hd, (fun _ _ => rfl), ⟨by rw [hb]; congr 1; omega, fun q => absurd q (by omega), fun _ _ _ => rfl⟩⟩
  | succ n ih =>
    intro d at_ k f σ B0 hn h9 ha hk hf hB l hd hb
    obtain ⟨f, rfl⟩ : ∃ g, f = g + 1 := ⟨f - 1, by omega⟩
    show ∃ σ', s_X0_longest F (r_X0_longest F f) σ 1 (nI at_) (nI k) = some σ' ∧ _
    unfold s_X0_longest
    rw [if_pos (T1 l), gI_T (T1 l), Option.bind_some, hb]
    dsimp only [jn]
    -- the loop, from what stands
    have loop : ∀ s, kj rMo σ s → hasD s 55 d → (∀ i, i < k → mI s 67 i = mI σ 67 i) → postM σ s k B0 0 (fun _ => 0) → ∃ σ', l_X0_longest_40 (r_X0_longest F f) (fun (σ21 : MM) => some σ21) F 1 (nI at_) (nI k) F 0 s = some σ' ∧ kj rMo σ σ' ∧ hasD σ' 55 d ∧ (∀ i, i < k → mI σ' 67 i = mI σ 67 i) ∧ postM σ σ' k B0 (mx (n + 1) d at_) (pthM (n + 1, d, at_)) := by
      intro s0 k0 d0 r0 p0
      obtain ⟨s9, ⟨k9, d9, r9, p9⟩, e9⟩ := yl1 (l_X0_longest_40 (r_X0_longest F f) (fun (σ21 : MM) => some σ21) F 1 (nI at_) (nI k)) (fun (σ21 : MM) => some σ21) (fun m s => kj rMo σ s ∧ hasD s 55 d ∧ (∀ i, i < k → mI s 67 i = mI σ 67 i) ∧ postM σ s k B0 (mxl (fS n d at_) m) (qthM n d (bst (fS n d at_) m) at_)) 10 (by
        intro g m s hm ⟨k1, d1, r1, p1⟩
        have ls := k1.ly l
        have h99 := h9 at_ ha m hm
        have dv : mI s (57 + at_) m = nI (d at_ m) := d1 at_ ha m hm
        have efs : fS n d at_ m = if 0 < d at_ m then 1 + mx n (decD d at_ m) m else 0 := rfl
        rw [l_X0_longest_40.eq_2, if_pos (ten_in hm)]
        simp only [kO ls, kO2 ls, kR ls ha, kG ls ha hm, Option.bind_some, dv]
        by_cases c : d at_ m = 0
        · rw [if_pos (by rw [c]; rfl), nI_1 m]
          have z : fS n d at_ m = 0 := by rw [efs, if_neg (by omega)]
          refine ⟨s, ⟨k1, d1, r1, ?_⟩, rfl⟩
          rw [mxl_s, z, Nat.max_zero]
          have eb : bst (fS n d at_) (m + 1) = bst (fS n d at_) m := if_neg (by omega)
          rw [eb]
          exact p1
        · have c0 : 0 < d at_ m := by omega
          have fv : fS n d at_ m = 1 + mx n (decD d at_ m) m := by rw [efs, if_pos c0]
          have ad := all_dec ha hm c0
          have k2 : kj rMo σ (wI (wI s (57 + at_) m (nI (d at_ m) - 1)) 67 k (nI m)) := (k1.trans (kj.w (Or.inl ⟨by omega, by omega⟩))).trans (kj.w (Or.inl ⟨by omega, by omega⟩))
          have l2 : lay (wI s (57 + at_) m (nI (d at_ m) - 1)) := ls
          have l3 := k2.ly l
          have d2 : hasD (wI (wI s (57 + at_) m (nI (d at_ m) - 1)) 67 k (nI m)) 55 (decD d at_ m) := fun x hx y hy => by
            rw [mI_wn (by omega)]
            exact hasD_dec d1 ha hm c0 x hx y hy
          obtain ⟨q1, q2, q3⟩ := p1
          have b2 : mI (wI (wI s (57 + at_) m (nI (d at_ m) - 1)) 67 k (nI m)) 1 15 = nI (max B0 (k + mxl (fS n d at_) m)) := by rw [mI_wn (by decide), mI_wn (by omega), q1]
          have vm : mxl (fS n d at_) m ≤ n + 1 := mxl_le m (fun b _ => by
            unfold fS
            have := mx_le n (decD d at_ b) b
            split <;> omega)
          obtain ⟨s4, e4, k4, d4, r4, p4⟩ := ih (decD d at_ m) m (k + 1) f _ (max B0 (k + mxl (fS n d at_) m)) (by omega) (dec99 h9) hm (by omega) (by omega) (by omega) l3 d2 b2
          have k5 := k2.trans k4
          have l4 := k5.ly l
          have dv4 : mI s4 (57 + at_) m = nI (d at_ m) - 1 := by
            have h1 : mI s4 (57 + at_) m = nI (decD d at_ m at_ m) := d4 at_ ha m hm
            rw [h1]
            unfold decD
            rw [if_pos ⟨rfl, rfl⟩]
            obtain ⟨w, hw⟩ : ∃ w, d at_ m = w + 1 := ⟨d at_ m - 1, by omega⟩
            rw [hw, nI_pred]; rfl
          rw [if_neg (nI_ne0 (by omega) (by omega)), kS ls ha hm, Option.bind_some, j67 l2, Option.bind_some, jS l2 (Or.inl rfl) (by omega), Option.bind_some, nI_1 k, e4, Option.bind_some]
          simp only [kO l4, kO2 l4, kR l4 ha, kG l4 ha hm, Option.bind_some, dv4]
          rw [kS l4 ha hm, Option.bind_some, Int32.sub_add_cancel, nI_1 m]
          refine ⟨_, ⟨k5.trans (kj.w (Or.inl ⟨by omega, by omega⟩)), fun x hx y hy => ?_, fun i hi => ?_, ?_⟩, rfl⟩
          · rw [mI_wI]
            by_cases cc : x = at_ ∧ y = m
            · rw [if_pos ⟨by omega, cc.2⟩, cc.1, cc.2]
            · rw [if_neg (by omega)]
              have := d4 x hx y hy
              unfold decD at this
              rw [if_neg cc] at this
              exact this
          · rw [mI_wn (by omega), r4 i (by omega), mI_wy (by omega), mI_wn (by omega)]
            exact r1 i hi
          · obtain ⟨t1, t2, t3⟩ := p4
            have hm1 : mxl (fS n d at_) (m + 1) = max (mxl (fS n d at_) m) (1 + mx n (decD d at_ m) m) := by rw [mxl_s, fv]
            have rd : ∀ j, mI (wI s4 (57 + at_) m (nI (d at_ m))) 68 j = mI s4 68 j := fun j => by rw [mI_wn (by omega)]
            refine ⟨?_, fun hlt => ?_, fun hlt => ?_⟩
            · rw [mI_wn (by omega), t1, hm1]
              congr 1
              omega
            · by_cases cg : mxl (fS n d at_) m < 1 + mx n (decD d at_ m) m
              · have eb : bst (fS n d at_) (m + 1) = m := if_pos (by rw [fv]; exact cg)
                have em : mxl (fS n d at_) (m + 1) = 1 + mx n (decD d at_ m) m := by rw [hm1]; omega
                rw [em] at hlt ⊢
                rw [eb]
                obtain ⟨u1, u2⟩ := t2 (by omega)
                refine ⟨fun i hi => ?_, fun j hj => ?_⟩
                · rw [rd, u1 i (by omega), mI_wy (by omega), mI_wn (by omega), r1 i hi]
                · rw [rd]
                  cases j with
                  | zero =>
                    rw [Nat.add_zero, u1 k (by omega), mI_ws]; rfl
                  | succ j =>
                    have := u2 j (by omega)
                    rw [show k + (j + 1) = k + 1 + j by omega, this]; rfl
              · have eb : bst (fS n d at_) (m + 1) = bst (fS n d at_) m := if_neg (by rw [fv]; exact cg)
                have em : mxl (fS n d at_) (m + 1) = mxl (fS n d at_) m := by rw [hm1]; omega
                rw [em] at hlt ⊢
                rw [eb]
                obtain ⟨u1, u2⟩ := q2 hlt
                have t4 := t3 (by omega)
                refine ⟨fun i hi => ?_, fun j hj => ?_⟩
                · rw [rd, t4 i (by omega), mI_wn (by decide), mI_wn (by omega)]; exact u1 i hi
                · rw [rd, t4 (k + j) (by omega), mI_wn (by decide), mI_wn (by omega)]; exact u2 j hj
            · intro i hi
              have t4 := t3 (by omega)
              rw [rd, t4 i (by omega), mI_wn (by decide), mI_wn (by omega)]
              exact q3 (by omega) i hi) (by
        intro g s _
        rw [l_X0_longest_40.eq_2, if_neg ten_no]) (f := F) (by omega) ⟨k0, d0, r0, by
          obtain ⟨p1, p2, p3⟩ := p0
          exact ⟨p1, fun q => ⟨(p2 q).1, fun j hj => absurd hj (Nat.not_lt_zero j)⟩, p3⟩⟩
      refine ⟨s9, e9, k9, d9, r9, ?_⟩
      obtain ⟨p1, p2, p3⟩ := p9
      rw [mx_s]
      exact ⟨p1, fun q => ⟨(p2 q).1, fun j hj => by rw [pth_q]; exact (p2 q).2 j hj⟩, p3⟩
    by_cases c : B0 < k
    · have k1 : kj rMo σ (wI σ 1 15 (nI k)) := kj.w (Or.inr ⟨rfl, rfl⟩)
      obtain ⟨s1, k2, h2, e2⟩ := keep_row (F := F) (k := k) (k1.ly l) (by omega) hF (r_X0_longest F f) (fun (σ27 : MM) => l_X0_longest_40 (r_X0_longest F f) (fun (σ21 : MM) => some σ21) F 1 (nI at_) (nI k) F 0 σ27) (nI at_)
      rw [if_pos (nI_lt c (by omega)), pI_T (T1 l), Option.bind_some, e2]
      refine loop s1 (k1.trans (k2.mono (fun x y q => by have q : x = 68 := q; unfold rMo; omega))) (fun x hx y hy => ?_) (fun i hi => ?_) ⟨?_, fun _ => ⟨fun i hi => ?_, fun j hj => absurd hj (Nat.not_lt_zero j)⟩, fun q => absurd c (by omega)⟩
      · rw [k2.2 _ _ (by omega), mI_wn (by omega)]; exact hd x hx y hy
      · rw [k2.2 _ _ (by omega), mI_wn (by omega)]
      · rw [k2.2 _ _ (by omega), mI_ws]; congr 1; omega
      · rw [h2 i hi, mI_wn (by omega)]
    · rw [if_neg (nI_nlt (by omega) (by omega))]
      exact loop σ kj.refl hd (fun _ _ => rfl) ⟨by rw [hb]; congr 1; omega, fun q => absurd q (by omega), fun _ _ _ => rfl⟩
end MOST
