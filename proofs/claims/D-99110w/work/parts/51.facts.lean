/-! WHAT THE LAW IS ASKED OF -/
/-- facts of a pair, and of a time alone -/
def fx2 (S : DS) (xs ys : Nat → Nat) (a b : Nat) : Nat → Int32 := fun j => match j with
  | 0 => nI a | 1 => nI b | 2 => nI (S.1 a b) | 3 => nI (owesS S.1 a) | 4 => nI (wayS xs ys a b) | 5 => nI (chS S.2.2.1 b) | 6 => nI (S.2.2.2 4) | 7 => nI (S.2.2.2 5) | _ => 0
def fx0 (t y : Nat) : Nat → Int32 := fun j => match j with
  | 6 => nI t | 7 => nI y | _ => 0
theorem f8_eq {g h : Nat → Int32} (h0 : g 0 = h 0) (h1 : g 1 = h 1) (h2 : g 2 = h 2) (h3 : g 3 = h 3) (h4 : g 4 = h 4) (h5 : g 5 = h 5) (h6 : g 6 = h 6) (h7 : g 7 = h 7) (h8 : ∀ j, 8 ≤ j → h j = 0) : f8 g = h := by
  funext j
  unfold f8
  by_cases c : j < 8
  · rw [if_pos c]
    match j, c with
    | 0, _ => exact h0
    | 1, _ => exact h1
    | 2, _ => exact h2
    | 3, _ => exact h3
    | 4, _ => exact h4
    | 5, _ => exact h5
    | 6, _ => exact h6
    | 7, _ => exact h7
    | n + 8, c => exact absurd c (by omega)
  · rw [if_neg c, h8 j (by omega)]
section FACTS
variable {σ : MM} {F D W t Y : Nat} {S : DS} {xs ys : Nat → Nat}
theorem e_X2_at {x y : Int32} (l : lay σ) : g_X2_at F σ 4 x y = some (4, wI (wI (wI (wI (wI (wI (wI (wI σ 4 1 0) 4 2 0) 4 3 0) 4 4 0) 4 5 0) 4 6 0) 4 7 x) 4 8 y) := by
  unfold g_X2_at
  simp only [gI_T, gP_T, pI_T, pP_T, pZ_T, aI_T, aP_T, sI_T, sB_T, Option.bind_some, bq_some, jn_eq, nw_eq, mT_wI, mP_wI, mN_wI, Nat.reduceLT, T4 l, if_true]
theorem CD.keep {σ σ' : MM} (h : CD W σ D S) (hk : ∀ a, (a = D ∨ (D + 3 ≤ a ∧ a ≤ D + 14)) → mI σ' a = mI σ a) : CD W σ' D S := by
  obtain ⟨c1, c2, ⟨w, w1, w2, w3, w4⟩, c4, c5, c6, c7, c8, c9, c10⟩ := h
  have hD := hk D (Or.inl rfl)
  refine ⟨fun a ha b hb => ?_, fun p hp => ?_, ⟨w, w1, by rw [hD]; exact w2, w3, fun k hk9 => ?_⟩, by rw [hD]; exact c4, by rw [hD]; exact c5, fun q => by rw [hD]; exact c6 q, by rw [hD]; exact c7, by rw [hD]; exact c8, by rw [hD]; exact c9, by rw [hD]; exact c10⟩
  · rw [hk _ (Or.inr ⟨by omega, by omega⟩)]; exact c1 a ha b hb
  · rw [hk _ (Or.inr ⟨by omega, by omega⟩)]; exact c2 p hp
  · rw [hk _ (Or.inr ⟨by omega, by omega⟩)]; exact w4 k hk9
theorem CE.keep {σ σ' : MM} (h : CE σ t xs ys) (h1 : mI σ' 1 2 = mI σ 1 2) (h2 : mI σ' 2 = mI σ 2) (h3 : mI σ' 3 = mI σ 3) : CE σ' t xs ys := by
  unfold CE at h ⊢
  rw [h1, h2, h3]
  exact h
theorem ME.keep {σ σ' : MM} (h : ME σ t xs ys) (h1 : mI σ' 85 5 = mI σ 85 5) (h2 : mI σ' 89 = mI σ 89) (h3 : mI σ' 90 = mI σ 90) : ME σ' t xs ys := by
  unfold ME at h ⊢
  rw [h1, h2, h3]
  exact h
theorem MD.keep {A : Nat} {σ σ' : MM} (h : MD σ A S) (h1 : mI σ' A = mI σ A) : MD σ' A S := by
  unfold MD hasL at h ⊢
  rw [h1]
  exact h
theorem isD.ne4 (hD : isD D) {a : Nat} (h : a = D ∨ (D + 3 ≤ a ∧ a ≤ D + 14)) : a ≠ 4 := by
  rcases hD with e | e | e <;> subst e <;> omega
/-- the moment of a pair -/
theorem e_X2_of {a b : Nat} (l : lay σ) (hD : isD D) (hC : CD W σ D S) (hW : W < 2147483648) (hw : DW t Y S) (hE : CE σ t xs ys) (ha : a < 10) (hb : b < 10) (hF : 100000 ≤ F) : ∃ σ', g_X2_of F σ 4 D (nI a) (nI b) = some (4, σ') ∧ kp (fun x => x = 4) σ σ' ∧ fC σ' = fx2 S xs ys a b := by
  have c4 := hC
  obtain ⟨c1, c2, c3, -, -, -, c7, c8, -⟩ := c4
  unfold g_X2_of
  rw [if_pos (T4 l), gI_T (hD.T l), Option.bind_some, gI_T (hD.T l), Option.bind_some, c7, c8, e_X2_at l, bq_some]
  have hk8 : kp (fun x => x = 4) σ (wI (wI (wI (wI (wI (wI (wI (wI σ 4 1 0) 4 2 0) 4 3 0) 4 4 0) 4 5 0) 4 6 0) 4 7 (nI (S.2.2.2 4))) 4 8 (nI (S.2.2.2 5))) := ⟨rfl, fun x hx => by
    have hx : x ≠ 4 := hx
    simp only [mI_wn hx]⟩
  have f7 : mI (wI (wI (wI (wI (wI (wI (wI (wI σ 4 1 0) 4 2 0) 4 3 0) 4 4 0) 4 5 0) 4 6 0) 4 7 (nI (S.2.2.2 4))) 4 8 (nI (S.2.2.2 5))) 4 7 = nI (S.2.2.2 4) := by rw [mI_wy (by decide), mI_ws]
  have f8' : mI (wI (wI (wI (wI (wI (wI (wI (wI σ 4 1 0) 4 2 0) 4 3 0) 4 4 0) 4 5 0) 4 6 0) 4 7 (nI (S.2.2.2 4))) 4 8 (nI (S.2.2.2 5))) 4 8 = nI (S.2.2.2 5) := mI_ws
  generalize (wI (wI (wI (wI (wI (wI (wI (wI σ 4 1 0) 4 2 0) 4 3 0) 4 4 0) 4 5 0) 4 6 0) 4 7 (nI (S.2.2.2 4))) 4 8 (nI (S.2.2.2 5))) = s0 at hk8 f7 f8' ⊢
  have l0 := hk8.ly l
  have w_ : ∀ {s : MM} {j : Nat} {v : Int32}, kp (fun x => x = 4) σ s → kp (fun x => x = 4) σ (wI s 4 j v) := fun h => h.trans (kp.w rfl)
  have keepC : ∀ {s : MM}, kp (fun x => x = 4) σ s → CD W s D S := fun h => hC.keep (fun a q => h.2 a (hD.ne4 q))
  have keepE : ∀ {s : MM}, kp (fun x => x = 4) σ s → CE s t xs ys := fun h => hE.keep (by rw [h.2 1 (by decide)]) (h.2 2 (by decide)) (h.2 3 (by decide))
  have k1 := w_ hk8 (j := 1) (v := nI a)
  have k2 := w_ k1 (j := 2) (v := nI b)
  have d2 := (keepC k2).1 a ha b hb
  have l2 := k2.ly l
  rw [pI_T (T4 l0), Option.bind_some, pI_T (T4 (k1.ly l)), Option.bind_some]
  obtain ⟨t1, p1, t2, hr⟩ := hD.B l2
  rw [gP_T (hD.T l2), Option.bind_some, hD.P0 l2, gP_T t1, Option.bind_some, p1, aP_T (by rw [t2]) (by rw [t2]; exact ha) (by rw [t2]; decide), Option.bind_some, (hr a ha).1, aI_T (by rw [(hr a ha).2]) (by rw [(hr a ha).2]; exact hb) (by rw [(hr a ha).2]; decide), Option.bind_some, d2]
  have k3 := w_ k2 (j := 3) (v := nI (S.1 a b))
  have l3 := k3.ly l
  rw [pI_T (T4 l2), Option.bind_some, gP_T (hD.T l3), Option.bind_some, hD.P0 l3, e_X4_owes (hD.B l3) (keepC k3).1 ha (by omega), bq_some]
  have k4' := w_ k3 (j := 4) (v := nI (owesS S.1 a))
  have l4 := k4'.ly l
  rw [pI_T (T4 l3), Option.bind_some, gP_T (T4 l4), Option.bind_some, P4_9 l4, e_way l4 (keepE k4') ha hb, bq_some]
  have k5 := w_ k4' (j := 5) (v := nI (wayS xs ys a b))
  have l5 := k5.ly l
  rw [pI_T (T4 l4), Option.bind_some, e_X3_chalked l5 hD (keepC k5) hW hw hb (by omega), bq_some]
  have k6 := w_ k5 (j := 6) (v := nI (chS S.2.2.1 b))
  rw [pI_T (T4 l5), Option.bind_some]
  refine ⟨_, rfl, k6, ?_⟩
  refine f8_eq ?_ ?_ ?_ ?_ ?_ ?_ ?_ ?_ (fun j hj => ?_)
  · simp only [mI_wI]; rfl
  · simp only [mI_wI]; rfl
  · simp only [mI_wI]; rfl
  · simp only [mI_wI]; rfl
  · simp only [mI_wI]; rfl
  · simp only [mI_wI]; rfl
  · simp only [mI_wI]; exact f7
  · simp only [mI_wI]; exact f8'
  · match j, hj with
    | n + 8, _ => rfl
end FACTS
