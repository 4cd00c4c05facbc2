/-! CALLS THAT ONLY LOOK -/
section LOOKS
variable {B F : Nat} {G : GG}
theorem MM_b {σ : MM} (hG : GW B G) : ∀ a, a < 10 → ∀ b, b < 10 → G.S.1 a b ≤ 99 := hG.2.2.1.b99
theorem call_owes (hG : GW B G) (a b : Int32) : Call B G (fun σ => g_X0_owes F σ 1 a b) (fun τ => g_X6_owes F τ 85 a b) := by
  unfold g_X0_owes g_X6_owes
  rcases two_is (a := a) (b := b) hG with ⟨p, q, hp, hq, hpq, tp, tq, rfl, rfl, t1, t2⟩ | ⟨t1, t2⟩
  · refine call_look hG (nI (G.S.1 p q)) (fun σ h => ?_) (fun τ h => ?_)
    · (try dsimp only)
      rw [if_pos (T1 h.l), t1 F σ h, bq_some, if_neg (by decide), gP_T (T1 h.l), Option.bind_some, P1_4 h.l, dbP h.l d5, Option.bind_some, dbO h.l d5, Option.bind_some, rowP h.l d5 hp, Option.bind_some, rowI h.l d5 hp hq, Option.bind_some, show mI σ (5 + 3 + p) q = _ from h.2.1.1 p hp q hq]
    · (try dsimp only)
      rw [if_pos (T85 h.l), t2 F τ h, bq_some, if_neg (by decide), e_X6_debtOf h.l h.2.1.1 hp hq, bq_some]
  · refine call_look hG (-1) (fun σ h => ?_) (fun τ h => ?_)
    · (try dsimp only)
      rw [if_pos (T1 h.l), t1 F σ h, bq_some, if_pos rfl]
    · (try dsimp only)
      rw [if_pos (T85 h.l), t2 F τ h, bq_some, if_pos rfl]
theorem call_likes (hG : GW B G) (hB : B < 900000) (hF : 100000 ≤ F) (a b : Int32) : Call B G (fun σ => g_X0_likes F σ 1 a b) (fun τ => g_X6_likes F τ 85 a b) := by
  unfold g_X0_likes g_X6_likes
  rcases two_is (a := a) (b := b) hG with ⟨p, q, hp, hq, hpq, tp, tq, rfl, rfl, t1, t2⟩ | ⟨t1, t2⟩
  · refine call_same hG (likeS G.L (fx2 G.S G.xs G.ys p q)) (fun σ h => ?_) (fun τ h => ?_)
    · obtain ⟨s, k, e⟩ := e_X0_likingOf (F := F) h.1.2.1 (kt.refl h.l) rfl d5 h.2.1 (by omega) hG.2.2.1 h.1.2.2 hp hq hF
      refine ⟨s, ?_, k.j (fun x y q => Or.inl q)⟩
      (try dsimp only)
      rw [if_pos (T1 h.l), t1 F σ h, bq_some, if_neg (by decide), gP_T (T1 h.l), Option.bind_some, P1_4 h.l, e, bq_some]
    · obtain ⟨s, k, e⟩ := e_X6_likesBy (F := F) h.1.2.1 (kcod.refl h.l) h.2.1 hG.2.2.1 h.1.2.2 hp hq hF
      refine ⟨s, ?_, k.j (fun x y q => by unfold rSM; omega)⟩
      (try dsimp only)
      rw [if_pos (T85 h.l), t2 F τ h, bq_some, if_neg (by decide), e, bq_some]
  · refine call_look hG (-1) (fun σ h => ?_) (fun τ h => ?_)
    · (try dsimp only)
      rw [if_pos (T1 h.l), t1 F σ h, bq_some, if_pos rfl]
    · (try dsimp only)
      rw [if_pos (T85 h.l), t2 F τ h, bq_some, if_pos rfl]
/-- what one gets more than one pays -/
def netI (d : Nat → Nat → Nat) (p : Nat) : Int32 := nI (getsS d p) - nI (owesS d p)
theorem e_X0_netOf {σ : MM} {p : Nat} (h : CI B σ G) (hp : p < 10) (hF : 100000 ≤ F) : g_X0_netOf F σ 1 (nI p) = some (netI G.S.1 p, σ) := by
  unfold g_X0_netOf
  rw [if_pos (T1 h.l), gP_T (T1 h.l), Option.bind_some, P1_4 h.l, dbP h.l d5, Option.bind_some, e_X4_gets (d5.B h.l) h.2.1.1 hp (by omega), bq_some, gP_T (T1 h.l), Option.bind_some, P1_4 h.l, dbP h.l d5, Option.bind_some, e_X4_owes (d5.B h.l) h.2.1.1 hp (by omega), bq_some]
  rfl
theorem e_X6_setOffOf {σ : MM} {p : Nat} (h : MI σ G) (hp : p < 10) (hF : 100000 ≤ F) : g_X6_setOffOf F σ 85 (nI p) = some (netI G.S.1 p, σ) := by
  unfold g_X6_setOffOf
  rw [if_pos (T85 h.l), e_X6_getsAll h.l h.2.1.1 hp (by omega), bq_some, e_X6_owesAll h.l h.2.1.1 hp (by omega), bq_some]
  rfl
theorem call_setOff (hG : GW B G) (hF : 100000 ≤ F) (a : Int32) : Call B G (fun σ => g_X0_setOff F σ 1 a) (fun τ => g_X6_setOff F τ 85 a) := by
  unfold g_X0_setOff g_X6_setOff
  rcases told_is (x := a) hG with ⟨p, hp, tp, rfl⟩ | ⟨n1, n2⟩
  · refine call_look hG (netI G.S.1 p) (fun σ h => ?_) (fun τ h => ?_)
    · (try dsimp only)
      rw [if_pos (T1 h.l), told_yes h.l h.1.2.2 hp tp, bq_some, if_neg (by decide), e_X0_netOf h hp hF, bq_some]
    · (try dsimp only)
      rw [if_pos (T85 h.l), person_yes h.l h.1.2.2 hp tp, bq_some, if_neg (by decide), e_X6_setOffOf h hp hF, bq_some]
  · refine call_look hG (-1000000) (fun σ h => ?_) (fun τ h => ?_)
    · (try dsimp only)
      rw [if_pos (T1 h.l), n1 F σ h, bq_some, if_pos rfl]
    · (try dsimp only)
      rw [if_pos (T85 h.l), n2 F τ h, bq_some, if_pos rfl]
/-- what a person is -/
def isS (G : GG) (p : Nat) (w : Int32) : Int32 := if w = 0 then nI (G.xs p) else if w = 1 then nI (G.ys p) else if w = 2 then nI (owesS G.S.1 p) else if w = 3 then nI (getsS G.S.1 p) else if w = 4 then G.S.2.1 p else if w = 5 then nI (chS G.S.2.2.1 p) else -1
theorem call_personIs (hG : GW B G) (hB : B < 900000) (hF : 100000 ≤ F) (a w : Int32) : Call B G (fun σ => g_X0_personIs F σ 1 a w) (fun τ => g_X6_personIs F τ 85 a w) := by
  unfold g_X0_personIs g_X6_personIs
  rcases told_is (x := a) hG with ⟨p, hp, tp, rfl⟩ | ⟨n1, n2⟩
  · refine call_look hG (isS G p w) (fun σ h => ?_) (fun τ h => ?_)
    · (try dsimp only)
      have l := h.l
      have x1 : aI σ 2 20 (nI p) = some (nI (G.xs p)) := by rw [aI_T (by rw [T2 l]) (by rw [T2 l]; exact hp) (by rw [T2 l]; decide), (h.1.2.2.2.2 p hp).1]
      have x2 : aI σ 3 20 (nI p) = some (nI (G.ys p)) := by rw [aI_T (by rw [T3 l]) (by rw [T3 l]; exact hp) (by rw [T3 l]; decide), (h.1.2.2.2.2 p hp).2.1]
      have x3 : aI σ 18 20 (nI p) = some (G.S.2.1 p) := by rw [aI_T (by rw [T18 l]) (by rw [T18 l]; exact hp) (by rw [T18 l]; decide), h.2.1.2.1 p hp]
      rw [if_pos (T1 l), told_yes l h.1.2.2 hp tp, bq_some, if_neg (by decide)]
      simp only [gP_T (T1 l), gP_T (T5 l), P1_0 l, P1_1 l, P1_4 l, P5_0 l, P5_1 l, Option.bind_some, x1, x2, x3, bq_some, show g_X4_owes F σ 6 (nI p) = _ from e_X4_owes (d5.B l) h.2.1.1 hp (show 10 < F by omega), show g_X4_gets F σ 6 (nI p) = _ from e_X4_gets (d5.B l) h.2.1.1 hp (show 10 < F by omega), e_X3_chalked l d5 h.2.1 (show B < 2147483648 by omega) hG.2.2.1 hp (show 100 < F by omega)]
      unfold isS
      by_cases w0 : w = 0
      · rw [if_pos w0, if_pos w0]
      · rw [if_neg w0, if_neg w0]
        by_cases w1 : w = 1
        · rw [if_pos w1, if_pos w1]
        · rw [if_neg w1, if_neg w1]
          by_cases w2 : w = 2
          · rw [if_pos w2, if_pos w2]
          · rw [if_neg w2, if_neg w2]
            by_cases w3 : w = 3
            · rw [if_pos w3, if_pos w3]
            · rw [if_neg w3, if_neg w3]
              by_cases w4 : w = 4
              · rw [if_pos w4, if_pos w4]
              · rw [if_neg w4, if_neg w4]
                by_cases w5 : w = 5
                · rw [if_pos w5, if_pos w5]
                · rw [if_neg w5, if_neg w5]
    · (try dsimp only)
      have l := h.l
      have x1 : aI τ 89 20 (nI p) = some (nI (G.xs p)) := by rw [aI_T (by rw [T89 l]) (by rw [T89 l]; exact hp) (by rw [T89 l]; decide), (h.1.2.2.2.2 p hp).1]
      have x2 : aI τ 90 20 (nI p) = some (nI (G.ys p)) := by rw [aI_T (by rw [T90 l]) (by rw [T90 l]; exact hp) (by rw [T90 l]; decide), (h.1.2.2.2.2 p hp).2.1]
      have x3 : aI τ 86 20 (100 + nI p) = some (G.S.2.1 p) := by rw [show (100 : Int32) = nI 100 from rfl, nI_add, aN l (by omega), h.2.1.2.1 p hp]
      rw [if_pos (T85 l), person_yes l h.1.2.2 hp tp, bq_some, if_neg (by decide)]
      simp only [gN l, gP_T (T85 l), P85_3 l, P85_4 l, Option.bind_some, x1, x2, x3, bq_some, e_X6_owesAll l h.2.1.1 hp (show 10 < F by omega), e_X6_getsAll l h.2.1.1 hp (show 10 < F by omega), e_X6_chalksOf l h.2.1 hG.2.2.1 hp (show 100 < F by omega)]
      unfold isS
      by_cases w0 : w = 0
      · rw [if_pos w0, if_pos w0]
      · rw [if_neg w0, if_neg w0]
        by_cases w1 : w = 1
        · rw [if_pos w1, if_pos w1]
        · rw [if_neg w1, if_neg w1]
          by_cases w2 : w = 2
          · rw [if_pos w2, if_pos w2]
          · rw [if_neg w2, if_neg w2]
            by_cases w3 : w = 3
            · rw [if_pos w3, if_pos w3]
            · rw [if_neg w3, if_neg w3]
              by_cases w4 : w = 4
              · rw [if_pos w4, if_pos w4]
              · rw [if_neg w4, if_neg w4]
                by_cases w5 : w = 5
                · rw [if_pos w5, if_pos w5]
                · rw [if_neg w5, if_neg w5]
  · refine call_look hG (-1) (fun σ h => ?_) (fun τ h => ?_)
    · (try dsimp only)
      rw [if_pos (T1 h.l), n1 F σ h, bq_some, if_pos rfl]
    · (try dsimp only)
      rw [if_pos (T85 h.l), n2 F τ h, bq_some, if_pos rfl]
/-- who had it longest -/
def longS (G : GG) : Nat → Int32 × Int32
  | 0 => (-2, 0)
  | n + 1 => if G.t.testBit n = true ∧ (longS G n).2 < G.S.2.1 n then (nI n, G.S.2.1 n) else longS G n
theorem call_longest (hG : GW B G) (hF : 100000 ≤ F) : Call B G (fun σ => g_X0_longest_2 F σ 1) (fun τ => g_X6_longest F τ 85) := by
  unfold g_X0_longest_2 g_X6_longest
  refine call_look hG (longS G 10).1 (fun σ h => ?_) (fun τ h => ?_)
  · (try dsimp only)
    have l := h.l
    rw [if_pos (T1 l)]
    refine ylv (fun f (v : Int32 × Int32) i σ => l_X0_longest_2_7 (fun (r1_10 : Int32) (σ9 : MM) => some (r1_10, σ9)) F 1 f v.1 v.2 i σ) (fun v σ => some (v.1, σ)) (longS G) σ 10 (fun f i hi => ?_) (fun f => ?_) (f := F) (by omega)
    · have x3 : aI σ 18 20 (nI i) = some (G.S.2.1 i) := by rw [aI_T (by rw [T18 l]) (by rw [T18 l]; exact hi) (by rw [T18 l]; decide), h.2.1.2.1 i hi]
      have e : longS G (i + 1) = if G.t.testBit i = true ∧ (longS G i).2 < G.S.2.1 i then (nI i, G.S.2.1 i) else longS G i := rfl
      (try dsimp only)
      rw [l_X0_longest_2_7.eq_2, if_pos (ten_in hi), e]
      by_cases ht : G.t.testBit i = true
      · rw [told_yes l h.1.2.2 hi ht, bq_some, if_neg (by decide)]
        simp only [gP_T (T1 l), gP_T (T5 l), P1_4 l, P5_1 l, Option.bind_some, x3, nI_1]
        by_cases c : (longS G i).2 < G.S.2.1 i
        · rw [if_pos c, if_pos ⟨ht, c⟩]
        · rw [if_neg c, if_neg (fun q => c q.2)]
      · rw [told_no l h.1.2.2 (fun p hp h1 h2 => ht (by rw [(nI_eq (by omega) (by omega)).mp h2]; exact h1)), bq_some, if_pos rfl, if_neg (fun q => ht q.1), nI_1]
    · (try dsimp only)
      rw [l_X0_longest_2_7.eq_2, if_neg ten_no]
  · (try dsimp only)
    have l := h.l
    rw [if_pos (T85 l)]
    refine ylv (fun f (v : Int32 × Int32) i σ => l_X6_longest_7 (fun (r1_10 : Int32) (σ9 : MM) => some (r1_10, σ9)) F 85 f v.1 v.2 i σ) (fun v σ => some (v.1, σ)) (longS G) τ 10 (fun f i hi => ?_) (fun f => ?_) (f := F) (by omega)
    · have x3 : aI τ 86 20 (100 + nI i) = some (G.S.2.1 i) := by rw [show (100 : Int32) = nI 100 from rfl, nI_add, aN l (by omega), h.2.1.2.1 i hi]
      have e : longS G (i + 1) = if G.t.testBit i = true ∧ (longS G i).2 < G.S.2.1 i then (nI i, G.S.2.1 i) else longS G i := rfl
      (try dsimp only)
      rw [l_X6_longest_7.eq_2, if_pos (ten_in hi), e]
      by_cases ht : G.t.testBit i = true
      · rw [person_yes l h.1.2.2 hi ht, bq_some, if_neg (by decide)]
        simp only [gN l, Option.bind_some, x3, nI_1]
        by_cases c : (longS G i).2 < G.S.2.1 i
        · rw [if_pos c, if_pos ⟨ht, c⟩]
        · rw [if_neg c, if_neg (fun q => c q.2)]
      · rw [person_no l h.1.2.2 (fun p hp h1 h2 => ht (by rw [(nI_eq (by omega) (by omega)).mp h2]; exact h1)), bq_some, if_pos rfl, if_neg (fun q => ht q.1), nI_1]
    · (try dsimp only)
      rw [l_X6_longest_7.eq_2, if_neg ten_no]
theorem call_chalk (hG : GW B G) (hB : B < 900000) (a : Int32) : Call B G (fun σ => g_X0_chalk F σ 1 a) (fun τ => g_X6_chalk F τ 85 a) := by
  unfold g_X0_chalk g_X6_chalk
  have hlen := hG.2.2.1.2.1
  rcases Classical.em (∃ k, k < G.S.2.2.1.length ∧ a = nI k) with ⟨k, hk, rfl⟩ | hno
  · refine call_look hG (nI (G.S.2.2.1.getD k 0)) (fun σ h => ?_) (fun τ h => ?_)
    · (try dsimp only)
      have l := h.l
      have hr := e_X3_rows (F := F) l d5 h.2.1 (by omega)
      obtain ⟨-, -, ⟨w, w1, w2, w3, w4⟩, -⟩ := h.2.1
      have i40 : (w - G.S.2.2.1.length + k) % 40 < 40 := Nat.mod_lt _ (by decide)
      have ec : g_X3_chalkAt F σ 5 (nI k) = some (nI (G.S.2.2.1.getD k 0), σ) := by
        unfold g_X3_chalkAt
        rw [if_pos (T5 l), gP_T (T5 l), Option.bind_some, P5_2 l, gI_T (T5 l), Option.bind_some, w2, hr, bq_some, nI_sub (by omega), nI_add, show (40 : Int32) = nI 40 from rfl, rm_nI (by omega) (by decide) (by decide), Option.bind_some, aI_T (by rw [T19 l]) (by rw [T19 l]; exact i40) (by rw [T19 l]; decide), Option.bind_some, show mI σ 19 _ = _ from w4 k hk]
      rw [if_pos (T1 l), gP_T (T1 l), Option.bind_some, P1_4 l, hr, bq_some, in_yes hk (by omega), bq_some, if_neg (by decide), gP_T (T1 l), Option.bind_some, P1_4 l, ec, bq_some]
    · (try dsimp only)
      have l := h.l
      obtain ⟨-, -, ⟨m3, m4⟩, -⟩ := h.2.1
      obtain ⟨n, hn⟩ : ∃ n, G.S.2.2.1.length = n + 1 := ⟨G.S.2.2.1.length - 1, by omega⟩
      rw [if_pos (T85 l), gN l, Option.bind_some, a150 l, Option.bind_some, m3, hn, nI_pred, inM_yes (by omega) (by omega), bq_some, if_neg (by decide), gN l, Option.bind_some, show (110 : Int32) = nI 110 from rfl, nI_add, aN l (by omega), Option.bind_some, m4 k hk]
  · refine call_look hG (-1) (fun σ h => ?_) (fun τ h => ?_)
    · (try dsimp only)
      have l := h.l
      have hr := e_X3_rows (F := F) l d5 h.2.1 (by omega)
      rw [if_pos (T1 l), gP_T (T1 l), Option.bind_some, P1_4 l, hr, bq_some, in_no (by omega) (fun k hk e => hno ⟨k, hk, e⟩), bq_some, if_pos rfl]
    · (try dsimp only)
      have l := h.l
      obtain ⟨-, -, ⟨m3, m4⟩, -⟩ := h.2.1
      rw [if_pos (T85 l), gN l, Option.bind_some, a150 l, Option.bind_some, m3]
      cases hn : G.S.2.2.1.length with
      | zero =>
        have : g_X6_in F τ a 0 (nI 0 - 1) = some (0, τ) := by
          unfold g_X6_in
          by_cases c : a < 0
          · rw [if_pos c]
          · rw [if_neg c]
            have : nI 0 - 1 < a := by
              obtain ⟨j, hj, rfl⟩ := nI_of c
              rw [Int32.lt_iff_toInt_lt, nI_toInt hj]
              have : (nI 0 - 1).toInt = -1 := rfl
              omega
            rw [if_pos this]
        rw [this, bq_some, if_pos rfl]
      | succ n => rw [nI_pred, inM_no (by omega) (fun k hk e => hno ⟨k, by omega, e⟩), bq_some, if_pos rfl]
end LOOKS
