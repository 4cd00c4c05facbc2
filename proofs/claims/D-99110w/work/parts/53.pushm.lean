/-! THE MODEL: somebody gets the coin -/
section PUSHM
variable {σ : MM} {F t Y : Nat} {S : DS}
theorem aN {k : Nat} (l : lay σ) (hk : k < 159) : aI σ 86 20 (nI k) = some (mI σ 86 k) := aI_T (by rw [T86 l]) (by rw [T86 l]; exact hk) (by rw [T86 l]; decide)
theorem sN {k : Nat} {v : Int32} (l : lay σ) (hk : k < 159) : sI σ 86 (nI k) v = some (wI σ 86 k v) := sI_T (by rw [T86 l]) (by rw [T86 l]; exact hk) (by rw [T86 l]; decide)
theorem gN (l : lay σ) : gP σ 85 5 62 0 = some 86 := by rw [gP_T (T85 l), P85_0 l]
theorem e_X6_rests {v : Int32} (l : lay σ) : g_X6_rests F σ 85 v = some (wI (wI (wI σ 86 151 v) 86 153 (-2)) 86 154 0) := by
  unfold g_X6_rests
  have l1 : lay (wI σ 86 151 v) := l
  have l2 : lay (wI (wI σ 86 151 v) 86 153 (-2)) := l
  rw [if_pos (T85 l), gN l, Option.bind_some, show (151 : Int32) = nI 151 from rfl, sN l (by decide), Option.bind_some, gN l1, Option.bind_some, show (153 : Int32) = nI 153 from rfl, sN l1 (by decide), Option.bind_some, gN l2, Option.bind_some, show (154 : Int32) = nI 154 from rfl, sN l2 (by decide), Option.bind_some]
/-- the chalk's shift -/
theorem chalk_shift (l : lay σ) (hF : 100 < F) (x1 : Int32) (K : MM → Option MM) : ∃ σ', kp (fun x => x = 86) σ σ' ∧ (∀ j, j < 110 ∨ 149 ≤ j → mI σ' 86 j = mI σ 86 j) ∧ (∀ k, k < 39 → mI σ' 86 (110 + k) = mI σ 86 (110 + k + 1)) ∧ l_X6_chalks_15 K F 85 x1 F 1 σ = K σ' := by
  have key : ∀ n i f s, i + n = 40 → 1 ≤ i → n < f → kp (fun x => x = 86) σ s → (∀ j, j < 110 ∨ 149 ≤ j → mI s 86 j = mI σ 86 j) → (∀ k, k + 1 < i → mI s 86 (110 + k) = mI σ 86 (110 + k + 1)) → (∀ k, i ≤ k + 1 → mI s 86 (110 + k) = mI σ 86 (110 + k)) → ∃ σ', kp (fun x => x = 86) σ σ' ∧ (∀ j, j < 110 ∨ 149 ≤ j → mI σ' 86 j = mI σ 86 j) ∧ (∀ k, k < 39 → mI σ' 86 (110 + k) = mI σ 86 (110 + k + 1)) ∧ l_X6_chalks_15 K F 85 x1 f (nI i) s = K σ' := by
    intro n
    induction n with
    | zero =>
      intro i f s e h1 hf hk h2 h3 h4
      obtain ⟨f, rfl⟩ : ∃ g, f = g + 1 := ⟨f - 1, by omega⟩
      have e : i = 40 := by omega
      subst e
      refine ⟨s, hk, h2, fun k hk9 => h3 k (by omega), ?_⟩
      rw [l_X6_chalks_15.eq_2, if_neg (by decide)]
    | succ n ih =>
      intro i f s e h1 hf hk h2 h3 h4
      obtain ⟨f, rfl⟩ : ∃ g, f = g + 1 := ⟨f - 1, by omega⟩
      obtain ⟨i, rfl⟩ : ∃ i', i = i' + 1 := ⟨i - 1, by omega⟩
      have ls := hk.ly l
      have e1 : (110 : Int32) + nI (i + 1) = nI (110 + i + 1) := by rw [show (110 : Int32) = nI 110 from rfl, nI_add]; rfl
      have e2 : nI (110 + i + 1) - 1 = nI (110 + i) := nI_pred _
      rw [l_X6_chalks_15.eq_2, if_pos (show nI (i + 1) < 40 from nI_lt (b := 40) (by omega) (by decide)), gN ls, Option.bind_some, Option.bind_some, e1, aN ls (by omega), Option.bind_some, e2, sN ls (by omega), Option.bind_some, nI_1]
      refine ih (i + 1 + 1) f _ (by omega) (by omega) (by omega) (hk.trans (kp.w rfl)) (fun j hj => ?_) (fun k hk9 => ?_) (fun k hk9 => ?_)
      · rw [mI_wy (by omega)]; exact h2 j hj
      · by_cases c : k = i
        · subst c
          rw [mI_ws]
          exact h4 (k + 1) (by omega)
        · rw [mI_wy (by omega)]; exact h3 k (by omega)
      · rw [mI_wy (by omega)]; exact h4 k (by omega)
  exact key 39 1 F σ (by omega) (by omega) (by omega) kp.refl (fun _ _ => rfl) (fun k hk => absurd hk (by omega)) (fun _ _ => rfl)
theorem e_X6_chalks {p : Nat} {ch : List Nat} (l : lay σ) (hF : 100 < F) (hlen : ch.length ≤ 40) (h1 : mI σ 86 150 = nI ch.length) (h2 : ∀ k, k < ch.length → mI σ 86 (110 + k) = nI (ch.getD k 0)) : ∃ σ', g_X6_chalks F σ 85 (nI p) = some σ' ∧ kp (fun x => x = 86) σ σ' ∧ (∀ j, j < 110 ∨ 150 < j → mI σ' 86 j = mI σ 86 j) ∧ mI σ' 86 150 = nI (pushS ch p).length ∧ ∀ k, k < (pushS ch p).length → mI σ' 86 (110 + k) = nI ((pushS ch p).getD k 0) := by
  -- the end, when n stand
  have fin : ∀ (s : MM) (n : Nat), lay s → n < 40 → mI s 86 150 = nI n → ((gP s 85 5 62 0).bind fun p5 => (gP s 85 5 62 0).bind fun p6 => (aI s p6 20 150).bind fun v7 => (sI s p5 ((110 + v7)) (nI p)).bind fun σ8 => (gP σ8 85 5 62 0).bind fun p9 => (gP σ8 85 5 62 0).bind fun p10 => (aI σ8 p10 20 150).bind fun v11 => (sI σ8 p9 150 ((v11 + 1))).bind fun σ12 => some σ12) = some (wI (wI s 86 (110 + n) (nI p)) 86 150 (nI (n + 1))) := by
    intro s n ls hn e
    have l2 : lay (wI s 86 (110 + n) (nI p)) := ls
    rw [show (150 : Int32) = nI 150 from rfl, show (110 : Int32) = nI 110 from rfl]
    rw [gN ls, Option.bind_some, Option.bind_some, aN ls (by decide), Option.bind_some, e, nI_add, sN ls (by omega), Option.bind_some, gN l2, Option.bind_some, Option.bind_some, aN l2 (by decide), Option.bind_some, mI_wy (by omega), e, nI_1, sN l2 (by decide), Option.bind_some]
  unfold g_X6_chalks
  have a150 : aI σ 86 20 150 = some (nI ch.length) := by rw [show (150 : Int32) = nI 150 from rfl, aN l (by decide), h1]
  rw [if_pos (T85 l), gN l, Option.bind_some, a150, Option.bind_some, jn_eq]
  have hpl := pushS_len (p := p) hlen
  by_cases c : ch.length = 40
  · obtain ⟨s, k1, k2, k3, k4⟩ := chalk_shift l hF (nI p) (fun (σ17 : MM) => (gP σ17 85 5 62 0).bind fun p18 => (sI σ17 p18 150 39).bind fun σ19 => (fun (σ3 : MM) => (gP σ3 85 5 62 0).bind fun p5 => (gP σ3 85 5 62 0).bind fun p6 => (aI σ3 p6 20 150).bind fun v7 => (sI σ3 p5 ((110 + v7)) (nI p)).bind fun σ8 => (gP σ8 85 5 62 0).bind fun p9 => (gP σ8 85 5 62 0).bind fun p10 => (aI σ8 p10 20 150).bind fun v11 => (sI σ8 p9 150 ((v11 + 1))).bind fun σ12 => some σ12) σ19)
    have ls := k1.ly l
    rw [if_pos (by rw [c]; rfl), k4]
    (try dsimp only)
    have hs : sI s 86 150 39 = some (wI s 86 150 (nI 39)) := by rw [show (150 : Int32) = nI 150 from rfl, sN ls (by decide)]; rfl
    have e8 := fin (wI s 86 150 (nI 39)) 39 ls (by decide) mI_ws
    rw [gN ls, Option.bind_some, hs, Option.bind_some, e8]
    refine ⟨_, rfl, k1.trans ((kp.w (S := fun x => x = 86) rfl).trans ((kp.w (S := fun x => x = 86) rfl).trans (kp.w (S := fun x => x = 86) rfl))), fun j hj => ?_, ?_, fun k hk => ?_⟩
    · rw [mI_wy (by omega), mI_wy (by omega), mI_wy (by omega)]; exact k2 j (by omega)
    · rw [mI_ws, hpl, c]; rfl
    · rw [pushS_get hlen hk, if_pos c, mI_wy (by rw [hpl] at hk; omega)]
      by_cases e : k = 39
      · subst e; rw [if_pos rfl, mI_ws]
      · rw [if_neg e, mI_wy (by omega), mI_wy (by rw [hpl] at hk; omega), k3 k (by rw [hpl] at hk; omega)]
        exact h2 (k + 1) (by rw [hpl] at hk; omega)
  · have c40 : ¬ nI ch.length = 40 := fun q => c ((nI_eq (b := 40) (by omega) (by decide)).mp q)
    rw [if_neg c40]
    (try dsimp only)
    have e8 := fin σ ch.length l (by omega) h1
    rw [e8]
    refine ⟨_, rfl, (kp.w (S := fun x => x = 86) rfl).trans (kp.w (S := fun x => x = 86) rfl), fun j hj => ?_, ?_, fun k hk => ?_⟩
    · rw [mI_wy (by omega), mI_wy (by omega)]
    · rw [mI_ws, hpl]; congr 1; omega
    · rw [pushS_get hlen hk, if_neg c, mI_wy (by rw [hpl] at hk; omega)]
      by_cases e : k = ch.length
      · subst e; rw [if_pos rfl, mI_ws]
      · rw [if_neg e, mI_wy (by omega)]
        exact h2 k (by rw [hpl] at hk; omega)
end PUSHM
