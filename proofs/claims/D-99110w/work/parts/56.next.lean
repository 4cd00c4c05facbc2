/-! WHOM ONE PAYS NEXT -/
section NEXT
variable (L : LW) (xs ys : Nat → Nat) (S : DS) (a : Nat)
def likeE (b : Nat) : Int32 := if S.1 a b = 0 then 0 else likeS L (fx2 S xs ys a b)
def nxtS : Nat → Nat × Int32
  | 0 => (10, 0)
  | n + 1 => if (nxtS n).2 < likeE L xs ys S a n then (n, likeE L xs ys S a n) else nxtS n
theorem nxtS_ok : ∀ n, n ≤ 10 → (nxtS L xs ys S a n).1 ≤ 10 ∧ ¬ (nxtS L xs ys S a n).2 < 0 ∧ ((nxtS L xs ys S a n).1 < 10 → S.1 a (nxtS L xs ys S a n).1 ≠ 0)
  | 0, _ => ⟨by show 10 ≤ 10; decide, by show ¬ (0 : Int32) < 0; decide, fun q => absurd q (by show ¬ 10 < 10; decide)⟩
  | n + 1, h => by
    have ih := nxtS_ok n (by omega)
    have e : nxtS L xs ys S a (n + 1) = if (nxtS L xs ys S a n).2 < likeE L xs ys S a n then (n, likeE L xs ys S a n) else nxtS L xs ys S a n := rfl
    rw [e]
    by_cases c : (nxtS L xs ys S a n).2 < likeE L xs ys S a n
    · rw [if_pos c]
      refine ⟨by (try dsimp only); omega, fun q => ih.2.1 (Int32.lt_trans c q), fun _ => ?_⟩
      intro q
      have q : S.1 a n = 0 := q
      have : likeE L xs ys S a n = 0 := if_pos q
      rw [this] at c
      exact ih.2.1 c
    · rw [if_neg c]; exact ih
end NEXT
theorem pv_ne {h : Nat} (hh : h < 10) : pv h ≠ -1 := by
  rw [pv_lt hh]
  intro q
  have := congrArg Int32.toInt q
  rw [nI_toInt (by omega)] at this
  have e : (-1 : Int32).toInt = -1 := rfl
  omega
theorem qv_ne {h : Nat} (hh : h < 10) : ¬ qv h < 0 := by
  rw [qv_lt hh]; exact nI_pos (by omega)
section NEXT2
variable {σ : MM} {F D W t Y : Nat} {S : DS} {xs ys : Nat → Nat} {L : LW}
theorem e_X3_nextPaid {a : Nat} (hK : CK σ L t xs ys) (hD : isD D) (hC : CD W σ D S) (hW : W < 2147483648) (hw : DW t Y S) (ha : a < 10) (hh : S.2.2.2 0 = a) (hF : 100000 ≤ F) : ∃ σ', kp (fun x => x = 4) σ σ' ∧ g_X3_nextPaid F σ D = some (pv (nxtS L xs ys S a 10).1, σ') := by
  unfold g_X3_nextPaid
  rw [if_pos (hD.T hK.1)]
  obtain ⟨v, s, ⟨hk, hv⟩, he⟩ := yl2 (fun f (v : Int32 × Int32) i σ => l_X3_nextPaid_6 (fun (r1_14 : Int32) (σ13 : MM) => some (r1_14, σ13)) F D f v.1 v.2 i σ) (fun v σ => some (v.1, σ)) (fun i v s => kp (fun x => x = 4) σ s ∧ v = (pv (nxtS L xs ys S a i).1, (nxtS L xs ys S a i).2)) 10 (by
    intro f i v s hi ⟨hk, hv⟩
    subst hv
    have hj := hk.j (R := fun x _ => x = 4) (fun _ _ q => q)
    have K1 := hK.j hj (fun x y q => by have q : x = 4 := q; subst q; exact Or.inr (Or.inl (by omega)))
    have C1 := hC.keep (fun a q => hk.2 a (hD.ne4 q))
    have l := K1.1
    obtain ⟨t1, p1, t2, hr⟩ := hD.B l
    have h3 : mI s D 3 = nI a := by rw [C1.2.2.2.1, hh, pv_lt ha]
    have e : nxtS L xs ys S a (i + 1) = if (nxtS L xs ys S a i).2 < likeE L xs ys S a i then (i, likeE L xs ys S a i) else nxtS L xs ys S a i := rfl
    have hl : (aI s (D + 3 + a) 20 (nI i)) = some (nI (S.1 a i)) := by
      have hr' : mT s (D + 3 + a) = (20, 10) := (hr a ha).2
      rw [aI_T (by rw [hr']) (by rw [hr']; exact hi) (by rw [hr']; decide)]
      rw [← C1.1 a ha i hi]
    have h99 := (hw.1 a ha i hi).1
    have step : ∀ (r : Int32) (s' : MM), r = likeE L xs ys S a i → (if (nxtS L xs ys S a i).2 < r then (l_X3_nextPaid_6 (fun (r1_14 : Int32) (σ13 : MM) => some (r1_14, σ13)) F D f (nI i) r ((nI i + 1)) s') else (l_X3_nextPaid_6 (fun (r1_14 : Int32) (σ13 : MM) => some (r1_14, σ13)) F D f (pv (nxtS L xs ys S a i).1) (nxtS L xs ys S a i).2 ((nI i + 1)) s')) = l_X3_nextPaid_6 (fun (r1_14 : Int32) (σ13 : MM) => some (r1_14, σ13)) F D f (pv (nxtS L xs ys S a (i + 1)).1) (nxtS L xs ys S a (i + 1)).2 (nI (i + 1)) s' := by
      intro r s' hr9
      subst hr9
      rw [e, nI_1]
      by_cases c : (nxtS L xs ys S a i).2 < likeE L xs ys S a i
      · rw [if_pos c, if_pos c, pv_lt hi]
      · rw [if_neg c, if_neg c]
    (try dsimp only)
    rw [l_X3_nextPaid_6.eq_2, if_pos (ten_in hi), gP_T (hD.T l), Option.bind_some, hD.P0 l, gP_T t1, Option.bind_some, p1, gI_T (hD.T l), Option.bind_some, h3, aP_T (by rw [t2]) (by rw [t2]; exact ha) (by rw [t2]; decide), Option.bind_some, (hr a ha).1, show D + 1 + 2 + a = D + 3 + a from rfl, hl, Option.bind_some, jn_eq]
    (try dsimp only)
    by_cases c : S.1 a i = 0
    · rw [if_pos (by rw [c]; rfl)]
      exact ⟨_, s, ⟨hk, rfl⟩, step 0 s (by unfold likeE; rw [if_pos c])⟩
    · rw [if_neg (nI_ne0 (by omega) (by omega)), gP_T (hD.T l), Option.bind_some, hD.P15 l, Option.bind_some]
      obtain ⟨s', k2, e2⟩ := e_X0_likingOf (F := F) K1.2.1 (kt.refl l) rfl hD C1 hW hw K1.2.2 ha hi hF
      rw [e2, bq_some]
      exact ⟨_, s', ⟨hk.trans k2, rfl⟩, step _ s' (by unfold likeE; rw [if_neg c])⟩) (by
    intro f v s ⟨hk, hv⟩
    (try dsimp only)
    rw [l_X3_nextPaid_6.eq_2, if_neg ten_no]) (f := F) (v := (-1, 0)) (by omega) ⟨kp.refl, rfl⟩
  refine ⟨s, hk, he.trans ?_⟩
  rw [hv]
theorem e_X6_nextPaid {a : Nat} (hK : MK σ L t xs ys) (hM : MD σ 86 S) (hw : DW t Y S) (ha : a < 10) (hF : 100000 ≤ F) : ∃ σ', kp (fun x => x = 104 ∨ x = 103) σ σ' ∧ g_X6_nextPaid F σ 85 (nI a) = some (qv (nxtS L xs ys S a 10).1, σ') := by
  unfold g_X6_nextPaid
  rw [if_pos (T85 hK.1)]
  obtain ⟨v, s, ⟨hk, hv⟩, he⟩ := yl2 (fun f (v : Int32 × Int32) i σ => l_X6_nextPaid_8 (fun (r1_14 : Int32) (σ13 : MM) => some (r1_14, σ13)) F 85 (nI a) f v.1 v.2 i σ) (fun v σ => some (v.1, σ)) (fun i v s => kp (fun x => x = 104 ∨ x = 103) σ s ∧ v = (qv (nxtS L xs ys S a i).1, (nxtS L xs ys S a i).2)) 10 (by
    intro f i v s hi ⟨hk, hv⟩
    subst hv
    have hj := hk.j (R := fun x _ => x = 104 ∨ x = 103) (fun _ _ q => q)
    have K1 := hK.j hj (fun x y q => by have q : x = 104 ∨ x = 103 := q; unfold rM; omega)
    have M1 := hM.keep (hk.2 86 (by decide))
    have l := K1.1
    have e : nxtS L xs ys S a (i + 1) = if (nxtS L xs ys S a i).2 < likeE L xs ys S a i then (i, likeE L xs ys S a i) else nxtS L xs ys S a i := rfl
    obtain ⟨h99, hnz⟩ := hw.1 a ha i hi
    have ok := nxtS_ok L xs ys S a i (by omega)
    have skip : S.1 a i = 0 → nxtS L xs ys S a (i + 1) = nxtS L xs ys S a i := by
      intro c
      rw [e]
      have : likeE L xs ys S a i = 0 := by unfold likeE; rw [if_pos c]
      rw [this, if_neg ok.2.1]
    (try dsimp only)
    by_cases c : S.1 a i = 0
    · rw [skip c, l_X6_nextPaid_8.eq_2, if_pos (ten_in hi), nI_1]
      by_cases ht : t.testBit i = true
      · rw [person_yes l K1.2.2 hi ht, bq_some, if_neg (by decide), e_X6_debtOf l M1.1 ha hi, bq_some, if_pos (by rw [c]; rfl)]
        exact ⟨_, s, ⟨hk, rfl⟩, rfl⟩
      · rw [person_no l K1.2.2 (fun p hp h1 h2 => ht (by rw [(nI_eq (by omega) (by omega)).mp h2]; exact h1)), bq_some, if_pos rfl]
        exact ⟨_, s, ⟨hk, rfl⟩, rfl⟩
    · obtain ⟨-, -, ht⟩ := hnz c
      obtain ⟨s', k2, e2⟩ := e_X6_likesBy (F := F) K1.2.1 (kcod.refl l) M1 hw K1.2.2 ha hi hF
      have hl : likeE L xs ys S a i = likeS L (fx2 S xs ys a i) := if_neg c
      rw [l_X6_nextPaid_8.eq_2, if_pos (ten_in hi), person_yes l K1.2.2 hi ht, bq_some, if_neg (by decide), e_X6_debtOf l M1.1 ha hi, bq_some, if_neg (nI_ne0 (by omega) (by omega)), e2, bq_some, nI_1, ← hl]
      refine ⟨_, s', ⟨hk.trans k2, rfl⟩, ?_⟩
      rw [e]
      by_cases c2 : (nxtS L xs ys S a i).2 < likeE L xs ys S a i
      · rw [if_pos c2, if_pos c2, qv_lt hi]
      · rw [if_neg c2, if_neg c2]) (by
    intro f v s ⟨hk, hv⟩
    (try dsimp only)
    rw [l_X6_nextPaid_8.eq_2, if_neg ten_no]) (f := F) (v := (-2, 0)) (by omega) ⟨kp.refl, rfl⟩
  refine ⟨s, hk, he.trans ?_⟩
  rw [hv]
end NEXT2
