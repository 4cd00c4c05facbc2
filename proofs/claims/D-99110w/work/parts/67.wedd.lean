seal gout gin lotS nxtS
/-! WEDDINGS -/
theorem stayS_q {L : LW} {xs ys : Nat → Nat} {S : DS} {j : Nat} (hj : 4 ≤ j) : (stayS L xs ys S).2.2.2 j = S.2.2.2 j := by
  unfold stayS
  by_cases c3 : 6 ≤ S.2.2.2 4 ∧ S.2.2.2 4 ≤ 19 ∧ S.2.2.2 6 = 0 ∧ (nxtS L xs ys (hadS S (S.2.2.2 0)) (S.2.2.2 0) 10).1 < 10
  · rw [if_pos c3]
    show upQ (upQ (upQ (upQ S.2.2.2 0 _) 1 _) 2 _) 3 _ j = _
    rw [upQ_n (by omega), upQ_n (by omega), upQ_n (by omega), upQ_n (by omega)]
  · rw [if_neg c3]; rfl
theorem doneS_q {L : LW} {xs ys : Nat → Nat} {S : DS} {p : Int32} {j : Nat} (hj : 4 ≤ j) : (doneS L xs ys S p).2.1.2.2.2 j = S.2.2.2 j := by
  unfold doneS
  by_cases c : S.2.2.2 1 < 10
  · rw [if_pos c]
    by_cases c2 : S.2.2.2 3 - 1 = 0
    · rw [if_pos c2]
      show upQ (upQ (upQ S.2.2.2 3 _) 0 _) 1 _ j = _
      rw [upQ_n (by omega), upQ_n (by omega), upQ_n (by omega)]
    · rw [if_neg c2]
      show upQ S.2.2.2 3 _ j = _
      rw [upQ_n (by omega)]
  · rw [if_neg c]
    by_cases c2 : S.2.2.2 0 < 10
    · rw [if_pos c2]; exact stayS_q hj
    · rw [if_neg c2]
theorem hourS_clock {L : LW} {xs ys : Nat → Nat} {x : HS} : (hourS L xs ys x).2.1.2.2.2 4 = (if x.1.2.2.2 4 + 1 = 24 then 0 else x.1.2.2.2 4 + 1) ∧ (hourS L xs ys x).2.1.2.2.2 5 = (if x.1.2.2.2 4 + 1 = 24 then x.1.2.2.2 5 + 1 else x.1.2.2.2 5) := by
  have e4 : (doneS L xs ys (mornS L xs ys x).1 (mornS L xs ys x).2.1).2.1.2.2.2 4 = x.1.2.2.2 4 := by rw [doneS_q (by decide), mornS_q (by decide) (by decide)]
  have e5 : (doneS L xs ys (mornS L xs ys x).1 (mornS L xs ys x).2.1).2.1.2.2.2 5 = x.1.2.2.2 5 := by rw [doneS_q (by decide), mornS_q (by decide) (by decide)]
  show (tickS (doneS L xs ys (mornS L xs ys x).1 (mornS L xs ys x).2.1).2.1).2.2.2 4 = _ ∧ (tickS (doneS L xs ys (mornS L xs ys x).1 (mornS L xs ys x).2.1).2.1).2.2.2 5 = _
  generalize (doneS L xs ys (mornS L xs ys x).1 (mornS L xs ys x).2.1).2.1 = S at e4 e5 ⊢
  unfold tickS
  rw [e4, e5]
  by_cases c : x.1.2.2.2 4 + 1 = 24
  · rw [if_pos c, if_pos c, if_pos c]; exact ⟨rfl, rfl⟩
  · rw [if_neg c, if_neg c, if_neg c]; exact ⟨rfl, e5⟩
section WEDD
variable {B F : Nat} {G : GG}
/-- who is seen in the day -/
def seenS (L : LW) (xs ys : Nat → Nat) (z : HS) (s : Nat) : Nat := if (hourS L xs ys z).1 < 10 then (if z.1.2.2.2 4 = 0 then 0 else s) ||| 2 ^ (hourS L xs ys z).1 else (if z.1.2.2.2 4 = 0 then 0 else s)
def wedS (L : LW) (xs ys : Nat → Nat) (x : HS) (p q : Nat) : Nat → Nat → Nat → Int32
  | 0, _, _ => -2
  | n + 1, k, s => if (goesS L xs ys x k).1.2.2.2 5 < 9999 then (if (seenS L xs ys (goesS L xs ys x k) s).testBit p = true ∧ (seenS L xs ys (goesS L xs ys x k) s).testBit q = true then nI ((goesS L xs ys x k).1.2.2.2 5) else wedS L xs ys x p q n (k + 1) (seenS L xs ys (goesS L xs ys x k) s)) else -2
theorem wedS_1 {L : LW} {xs ys : Nat → Nat} {x x' : HS} {p q : Nat} (h : x.1 = x'.1) : ∀ n k s, wedS L xs ys x p q n k s = wedS L xs ys x' p q n k s
  | 0, _, _ => rfl
  | n + 1, k, s => by
    have e1 := goesS_1 (L := L) (xs := xs) (ys := ys) h k
    have e2 := (hourS_1 (L := L) (xs := xs) (ys := ys) e1).1
    have e3 : seenS L xs ys (goesS L xs ys x k) s = seenS L xs ys (goesS L xs ys x' k) s := by unfold seenS; rw [e1, e2]
    unfold wedS
    rw [e3, e1, wedS_1 h n (k + 1)]
theorem seen_bit {L : LW} {xs ys : Nat → Nat} {z : HS} {s p : Nat} (hp : p < 10) : (seenS L xs ys z s).testBit p = true ↔ (hourS L xs ys z).1 = p ∨ (z.1.2.2.2 4 ≠ 0 ∧ s.testBit p = true) := by
  have e : (if z.1.2.2.2 4 = 0 then 0 else s).testBit p = true ↔ (z.1.2.2.2 4 ≠ 0 ∧ s.testBit p = true) := by
    by_cases c : z.1.2.2.2 4 = 0
    · rw [if_pos c, Nat.zero_testBit]
      exact ⟨fun q => Bool.noConfusion q, fun q => absurd c q.1⟩
    · rw [if_neg c]
      exact ⟨fun q => ⟨c, q⟩, fun q => q.2⟩
  unfold seenS
  by_cases c2 : (hourS L xs ys z).1 < 10
  · rw [if_pos c2, Nat.testBit_or, bit_one, Bool.or_eq_true, e, decide_eq_true_iff]
    exact Or.comm
  · rw [if_neg c2, e]
    exact ⟨Or.inr, fun q => q.resolve_left (fun r => c2 (by omega))⟩
theorem seen_lt {L : LW} {xs ys : Nat → Nat} {z : HS} {s : Nat} (hs : s < 1024) : seenS L xs ys z s < 1024 := by
  have h0 : (if z.1.2.2.2 4 = 0 then 0 else s) < 2 ^ 10 := by
    by_cases c : z.1.2.2.2 4 = 0
    · rw [if_pos c]; decide
    · rw [if_neg c]; exact hs
  unfold seenS
  by_cases c2 : (hourS L xs ys z).1 < 10
  · rw [if_pos c2]
    exact Nat.or_lt_two_pow h0 (Nat.pow_lt_pow_right (by decide) c2)
  · rw [if_neg c2]; exact h0
theorem fv_eq {a b : Nat} (ha : a < 2147483647) (hb : b < 2147483647) : nI a - 1 = nI b - 1 ↔ a = b := by
  constructor
  · intro q
    have : nI a - 1 + 1 = nI b - 1 + 1 := by rw [q]
    rw [Int32.sub_add_cancel, Int32.sub_add_cancel] at this
    exact (nI_eq (by omega) (by omega)).mp this
  · rintro rfl; rfl
theorem wedd_C {σ : MM} {D W t Y p q : Nat} {x : HS} {xs ys : Nat → Nat} {L : LW} (hp : p < 10) (hq : q < 10) (hK : CK σ L t xs ys) (hD : isD D) (h20 : D = 20) (hC : CH W σ D x) (hw : DW t Y x.1) (hg : GT t x.1) {N : Nat} (hN : N ≤ 240) (hW : W + 240 < 1000000) (hY : Y + 240 < 2147483646) (hF : 100000 ≤ F) : ∃ σ', l_X0_wedding_43 (fun (σ23 : MM) => some ((-2), σ23)) F 1 (nI p) (nI q) (nI N) F (-1) (-1) 0 σ = some (wedS L xs ys x p q N 0 0, σ') ∧ kj (rH D) σ σ' := by
  have key : ∀ n i f s a b v, i + n = N → n < f → kj (rH D) σ s → CH (W + i) s D (goesS L xs ys x i) → a ≤ (goesS L xs ys x i).1.2.2.2 5 + 1 → b ≤ (goesS L xs ys x i).1.2.2.2 5 + 1 → ((goesS L xs ys x i).1.2.2.2 4 = 0 → a ≤ (goesS L xs ys x i).1.2.2.2 5 ∧ b ≤ (goesS L xs ys x i).1.2.2.2 5) → ((goesS L xs ys x i).1.2.2.2 4 ≠ 0 → (a = (goesS L xs ys x i).1.2.2.2 5 + 1 ↔ v.testBit p = true) ∧ (b = (goesS L xs ys x i).1.2.2.2 5 + 1 ↔ v.testBit q = true)) → (a ≠ 0 → a ≠ b) → ∃ σ', l_X0_wedding_43 (fun (σ23 : MM) => some ((-2), σ23)) F 1 (nI p) (nI q) (nI N) f (nI a - 1) (nI b - 1) (nI i) s = some (wedS L xs ys x p q n i v, σ') ∧ kj (rH D) σ σ' := by
    intro n
    induction n with
    | zero =>
      intro i f s a b v e hf hk hc _ _ _ _ _
      obtain ⟨f, rfl⟩ : ∃ g, f = g + 1 := ⟨f - 1, by omega⟩
      rw [l_X0_wedding_43.eq_2, if_neg (nI_nlt (by omega) (by omega))]
      exact ⟨s, rfl, hk⟩
    | succ n ih =>
      intro i f s a b v e hf hk hc h1 h2 h3 h4 h5
      obtain ⟨f, rfl⟩ : ∃ g, f = g + 1 := ⟨f - 1, by omega⟩
      have ks := hK.j hk (rH_rC hD)
      have l := ks.1
      have hwi := goesS_W L xs ys hw hg hK.2.2.xy i
      have hyi := hwi.1.2.2.2.2.2.2.2.1
      have e5 : gP s 1 0 22 5 = some D := by rw [gP_T (T1 l), P1_5 l, h20]
      rw [l_X0_wedding_43.eq_2, if_pos (nI_lt (by omega) (by omega)), e5, Option.bind_some, e_X3_canGo l hD hc.1 hwi.1 (by omega), bq_some]
      unfold wedS
      have sb := fun (u : Nat) (hu : u < 10) => seen_bit (L := L) (xs := xs) (ys := ys) (z := goesS L xs ys x i) (s := v) hu
      by_cases c : (goesS L xs ys x i).1.2.2.2 5 < 9999
      · rw [if_pos c, if_neg (by decide), if_pos c]
        obtain ⟨s2, e2, k2, c2⟩ := e_X3_hourGoes (F := F) ks hD hc (by omega) hwi.1 (by omega) hF
        have hgot : (hourS L xs ys (goesS L xs ys x i)).1 ≤ 10 := hourS_got hwi.1
        have h8 : mI s D 8 = nI ((goesS L xs ys x i).1.2.2.2 5) := hc.1.2.2.2.2.2.2.2.1
        have clk := hourS_clock (L := L) (xs := xs) (ys := ys) (x := goesS L xs ys x i)
        rw [← goesS_go c] at c2 clk
        rw [e5, Option.bind_some, gI_T (hD.T l), Option.bind_some, h8, Option.bind_some, e2, bq_some]
        dsimp only [jn]
        generalize hz : goesS L xs ys x i = z at *
        obtain ⟨a', ha'⟩ : ∃ a', a' = if (hourS L xs ys z).1 = p then z.1.2.2.2 5 + 1 else a := ⟨_, rfl⟩
        obtain ⟨b', hb'⟩ : ∃ b', b' = if (hourS L xs ys z).1 = q then z.1.2.2.2 5 + 1 else b := ⟨_, rfl⟩
        have pd : nI (z.1.2.2.2 5) = nI (z.1.2.2.2 5 + 1) - 1 := (nI_pred _).symm
        have st : (if pv (hourS L xs ys z).1 = nI p then
            (if pv (hourS L xs ys z).1 = nI q then
              (if nI (z.1.2.2.2 5) = -1 then l_X0_wedding_43 (fun (σ23 : MM) => some ((-2), σ23)) F 1 (nI p) (nI q) (nI N) f (nI (z.1.2.2.2 5)) (nI (z.1.2.2.2 5)) (nI i + 1) s2 else if nI (z.1.2.2.2 5) = nI (z.1.2.2.2 5) then some (nI (z.1.2.2.2 5), s2) else l_X0_wedding_43 (fun (σ23 : MM) => some ((-2), σ23)) F 1 (nI p) (nI q) (nI N) f (nI (z.1.2.2.2 5)) (nI (z.1.2.2.2 5)) (nI i + 1) s2)
            else (if nI (z.1.2.2.2 5) = -1 then l_X0_wedding_43 (fun (σ23 : MM) => some ((-2), σ23)) F 1 (nI p) (nI q) (nI N) f (nI (z.1.2.2.2 5)) (nI b - 1) (nI i + 1) s2 else if nI (z.1.2.2.2 5) = nI b - 1 then some (nI (z.1.2.2.2 5), s2) else l_X0_wedding_43 (fun (σ23 : MM) => some ((-2), σ23)) F 1 (nI p) (nI q) (nI N) f (nI (z.1.2.2.2 5)) (nI b - 1) (nI i + 1) s2))
          else (if pv (hourS L xs ys z).1 = nI q then
              (if nI a - 1 = -1 then l_X0_wedding_43 (fun (σ23 : MM) => some ((-2), σ23)) F 1 (nI p) (nI q) (nI N) f (nI a - 1) (nI (z.1.2.2.2 5)) (nI i + 1) s2 else if nI a - 1 = nI (z.1.2.2.2 5) then some (nI a - 1, s2) else l_X0_wedding_43 (fun (σ23 : MM) => some ((-2), σ23)) F 1 (nI p) (nI q) (nI N) f (nI a - 1) (nI (z.1.2.2.2 5)) (nI i + 1) s2)
            else (if nI a - 1 = -1 then l_X0_wedding_43 (fun (σ23 : MM) => some ((-2), σ23)) F 1 (nI p) (nI q) (nI N) f (nI a - 1) (nI b - 1) (nI i + 1) s2 else if nI a - 1 = nI b - 1 then some (nI a - 1, s2) else l_X0_wedding_43 (fun (σ23 : MM) => some ((-2), σ23)) F 1 (nI p) (nI q) (nI N) f (nI a - 1) (nI b - 1) (nI i + 1) s2))) = (if a' = 0 ∨ a' ≠ b' then l_X0_wedding_43 (fun (σ23 : MM) => some ((-2), σ23)) F 1 (nI p) (nI q) (nI N) f (nI a' - 1) (nI b' - 1) (nI (i + 1)) s2 else some (nI a' - 1, s2)) := by
          have m1 : (-1 : Int32) = nI 0 - 1 := rfl
          have sub : ∀ a b : Nat, a < 2147483647 → b < 2147483647 → (if nI a - 1 = nI 0 - 1 then l_X0_wedding_43 (fun (σ23 : MM) => some ((-2), σ23)) F 1 (nI p) (nI q) (nI N) f (nI a - 1) (nI b - 1) (nI (i + 1)) s2 else if nI a - 1 = nI b - 1 then some (nI a - 1, s2) else l_X0_wedding_43 (fun (σ23 : MM) => some ((-2), σ23)) F 1 (nI p) (nI q) (nI N) f (nI a - 1) (nI b - 1) (nI (i + 1)) s2) = (if a = 0 ∨ a ≠ b then l_X0_wedding_43 (fun (σ23 : MM) => some ((-2), σ23)) F 1 (nI p) (nI q) (nI N) f (nI a - 1) (nI b - 1) (nI (i + 1)) s2 else some (nI a - 1, s2)) := by
            intro a b ha hb
            by_cases u : a = 0
            · rw [if_pos ((fv_eq ha (by decide)).mpr u), if_pos (Or.inl u)]
            · rw [if_neg (fun q => u ((fv_eq ha (by decide)).mp q))]
              by_cases w : a = b
              · rw [if_pos ((fv_eq ha hb).mpr w), if_neg (fun q => q.elim u (fun q => q w))]
              · rw [if_neg (fun q => w ((fv_eq ha hb).mp q)), if_pos (Or.inr w)]
          rw [m1, nI_1, pd, ha', hb']
          by_cases u1 : (hourS L xs ys z).1 = p
          · rw [if_pos ((pv_eq hgot hp).mpr u1), if_pos u1]
            by_cases u2 : (hourS L xs ys z).1 = q
            · rw [if_pos ((pv_eq hgot hq).mpr u2), if_pos u2]
              exact sub _ _ (by omega) (by omega)
            · rw [if_neg (fun r => u2 ((pv_eq hgot hq).mp r)), if_neg u2]
              exact sub _ _ (by omega) (by omega)
          · rw [if_neg (fun r => u1 ((pv_eq hgot hp).mp r)), if_neg u1]
            by_cases u2 : (hourS L xs ys z).1 = q
            · rw [if_pos ((pv_eq hgot hq).mpr u2), if_pos u2]
              exact sub _ _ (by omega) (by omega)
            · rw [if_neg (fun r => u2 ((pv_eq hgot hq).mp r)), if_neg u2]
              exact sub _ _ (by omega) (by omega)
        rw [st]
        clear st
        have iffp : a' = z.1.2.2.2 5 + 1 ↔ (seenS L xs ys z v).testBit p = true := by
          rw [sb p hp, ha']
          by_cases u1 : (hourS L xs ys z).1 = p
          · rw [if_pos u1]; exact ⟨fun _ => Or.inl u1, fun _ => rfl⟩
          · rw [if_neg u1]
            by_cases u0 : z.1.2.2.2 4 = 0
            · have := (h3 u0).1
              exact ⟨fun r => by omega, fun r => absurd u0 (r.resolve_left u1).1⟩
            · exact ⟨fun r => Or.inr ⟨u0, (h4 u0).1.mp r⟩, fun r => (h4 u0).1.mpr (r.resolve_left u1).2⟩
        have iffq : b' = z.1.2.2.2 5 + 1 ↔ (seenS L xs ys z v).testBit q = true := by
          rw [sb q hq, hb']
          by_cases u1 : (hourS L xs ys z).1 = q
          · rw [if_pos u1]; exact ⟨fun _ => Or.inl u1, fun _ => rfl⟩
          · rw [if_neg u1]
            by_cases u0 : z.1.2.2.2 4 = 0
            · have := (h3 u0).2
              exact ⟨fun r => by omega, fun r => absurd u0 (r.resolve_left u1).1⟩
            · exact ⟨fun r => Or.inr ⟨u0, (h4 u0).2.mp r⟩, fun r => (h4 u0).2.mpr (r.resolve_left u1).2⟩
        have la : a' ≤ z.1.2.2.2 5 + 1 := by rw [ha']; split <;> omega
        have lb : b' ≤ z.1.2.2.2 5 + 1 := by rw [hb']; split <;> omega
        have both : ¬ (a' = 0 ∨ a' ≠ b') ↔ (seenS L xs ys z v).testBit p = true ∧ (seenS L xs ys z v).testBit q = true := by
          rw [← iffp, ← iffq]
          constructor
          · intro r
            have r1 : a' ≠ 0 := fun u => r (Or.inl u)
            have r2 : a' = b' := Classical.byContradiction (fun u => r (Or.inr u))
            by_cases w1 : (hourS L xs ys z).1 = p
            · rw [if_pos w1] at ha'; omega
            · by_cases w2 : (hourS L xs ys z).1 = q
              · rw [if_pos w2] at hb'; omega
              · rw [if_neg w1] at ha'
                rw [if_neg w2] at hb'
                subst ha'
                subst hb'
                exact absurd r2 (h5 r1)
          · intro r u
            omega
        by_cases cc : (seenS L xs ys z v).testBit p = true ∧ (seenS L xs ys z v).testBit q = true
        · rw [if_neg (both.mpr cc), if_pos cc, iffp.mpr cc.1, nI_pred]
          exact ⟨s2, rfl, hk.trans k2⟩
        · rw [if_pos (Classical.byContradiction (fun r => cc (both.mp r))), if_neg cc]
          have h24 := hwi.1.2.2.2.2.2.2.1
          refine ih (i + 1) f s2 a' b' _ (by omega) (by omega) (hk.trans k2) c2 ?_ ?_ ?_ ?_ ?_
          · rw [clk.2]; split <;> omega
          · rw [clk.2]; split <;> omega
          · rw [clk.1, clk.2]
            intro r
            by_cases u : z.1.2.2.2 4 + 1 = 24
            · rw [if_pos u]; omega
            · rw [if_neg u] at r; omega
          · rw [clk.1, clk.2]
            intro r
            by_cases u : z.1.2.2.2 4 + 1 = 24
            · rw [if_pos u] at r; exact absurd rfl r
            · rw [if_neg u]; exact ⟨iffp, iffq⟩
          · intro r1 r2
            exact cc (both.mp (fun u => u.elim r1 (fun u => u r2)))
      · rw [if_neg c, if_pos rfl, if_neg c]
        exact ⟨s, rfl, hk⟩
  exact key N 0 F σ 0 0 0 (by omega) (by omega) kj.refl hC (by omega) (by omega) (fun _ => ⟨by omega, by omega⟩) (fun _ => ⟨⟨fun r => by omega, fun r => by rw [Nat.zero_testBit] at r; exact Bool.noConfusion r⟩, ⟨fun r => by omega, fun r => by rw [Nat.zero_testBit] at r; exact Bool.noConfusion r⟩⟩) (fun r => absurd rfl r)
end WEDD
