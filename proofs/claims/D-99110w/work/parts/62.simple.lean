/-! SIMPLE CALLS -/
section SIMPLE
variable {B F : Nat} {G : GG}
theorem DW.tt {t t' Y : Nat} {S : DS} (h : DW t Y S) (ht : ∀ i, t.testBit i = true → t'.testBit i = true) : DW t' Y S := by
  obtain ⟨d1, d2, d3, d4, d5, d6, d7⟩ := h
  exact ⟨fun a ha b hb => ⟨(d1 a ha b hb).1, fun q => ⟨((d1 a ha b hb).2 q).1, ht _ ((d1 a ha b hb).2 q).2.1, ht _ ((d1 a ha b hb).2 q).2.2⟩⟩, d2, d3, d4, d5, fun q => ht _ (d6 q), d7⟩
def updF (f : Nat → Nat) (p v : Nat) : Nat → Nat := fun x => if x = p then v else f x
theorem call_person (hG : GW B G) (a b c : Int32) : Call B G (fun σ => g_X0_person F σ 1 a b c) (fun τ => g_X6_person F τ 85 a b c) := by
  unfold g_X0_person g_X6_person
  have e9 : (9 : Int32) = nI (10 - 1) := rfl
  have e10 : (10 : Int32) = nI 10 := rfl
  rcases in_is (x := a) (n := 10) (by decide) (by decide) with ⟨p, hp, rfl⟩ | ⟨n1, n2⟩
  · rcases in_is (x := b) (n := 10) (by decide) (by decide) with ⟨x, hx, rfl⟩ | ⟨n1, n2⟩
    · rcases in_is (x := c) (n := 10) (by decide) (by decide) with ⟨y, hy, rfl⟩ | ⟨n1, n2⟩
      · obtain ⟨h1, h2, h3, h4, h5, h6, h7, h8⟩ := hG
        have ht : ∀ i, G.t.testBit i = true → (G.t ||| 2 ^ p).testBit i = true := fun i hi => by rw [Nat.testBit_or, hi]; rfl
        have hlt : G.t ||| 2 ^ p < 1024 := Nat.or_lt_two_pow (n := 10) h1 (Nat.pow_lt_pow_right (by decide) hp)
        refine ⟨1, mkG G.L (G.t ||| 2 ^ p) (updF G.xs p x) (updF G.ys p y) G.S G.kf G.K G.n G.tp, ⟨hlt, fun q hq => ⟨?_, ?_⟩, (h3.tt ht).mono (by omega), fun q => ht _ (h4 q), h5, fun q => ⟨((h6 q).1.tt ht).mono (by omega), fun u => ht _ ((h6 q).2 u)⟩, h7, h8⟩, fun σ h => ?_, fun τ h => ?_⟩
        · show updF G.xs p x q < 10
          unfold updF
          by_cases c : q = p
          · rw [if_pos c]; exact hx
          · rw [if_neg c]; exact (h2 q hq).1
        · show updF G.ys p y q < 10
          unfold updF
          by_cases c : q = p
          · rw [if_pos c]; exact hy
          · rw [if_neg c]; exact (h2 q hq).2
        · have l := h.l
          have l1 : lay (wI σ 1 2 (nI (G.t ||| 2 ^ p))) := l
          have l2 : lay (wI (wI σ 1 2 (nI (G.t ||| 2 ^ p))) 2 p (nI x)) := l
          have hm : mI σ 1 2 = nI G.t := h.1.2.2.1
          have kk : kj (fun u v => (u = 1 ∧ v = 2) ∨ u = 2 ∨ u = 3) σ (wI (wI (wI σ 1 2 (nI (G.t ||| 2 ^ p))) 2 p (nI x)) 3 p (nI y)) := (kj.w (Or.inl ⟨rfl, rfl⟩)).trans ((kj.w (Or.inr (Or.inl rfl))).trans (kj.w (Or.inr (Or.inr rfl))))
          refine ⟨_, ?_, kk.mono (fun u v q => by unfold rX; omega), ?_⟩
          · (try dsimp only)
            rw [if_pos (T1 l), e10, in_yes hp (by decide), bq_some, if_neg (by decide), in_yes hx (by decide), bq_some, if_neg (by decide), in_yes hy (by decide), bq_some, if_neg (by decide), gI_T (T1 l), Option.bind_some, hm, bx_one (by omega), bx_or, pI_T (T1 l), Option.bind_some, gP_T (T1 l1), Option.bind_some, P1_0 l1, sI_T (by rw [T2 l1]) (by rw [T2 l1]; exact hp) (by rw [T2 l1]; decide), Option.bind_some, gP_T (T1 l2), Option.bind_some, P1_1 l2, sI_T (by rw [T3 l2]) (by rw [T3 l2]; exact hp) (by rw [T3 l2]; decide), Option.bind_some]
          · obtain ⟨⟨c1, c2, c3⟩, c4, c5, c6, c7, c8⟩ := h
            have r : ∀ a, a ≠ 1 → a ≠ 2 → a ≠ 3 → mI (wI (wI (wI σ 1 2 (nI (G.t ||| 2 ^ p))) 2 p (nI x)) 3 p (nI y)) a = mI σ a := fun a u1 u2 u3 => by rw [mI_wn u3, mI_wn u2, mI_wn u1]
            have r1 : ∀ j, j ≠ 2 → mI (wI (wI (wI σ 1 2 (nI (G.t ||| 2 ^ p))) 2 p (nI x)) 3 p (nI y)) 1 j = mI σ 1 j := fun j u => by rw [mI_wn (by decide), mI_wn (by decide), mI_wy u]
            refine ⟨⟨l, ?_, ?_, hlt, fun q hq => ?_⟩, (c4.j kk (fun u v q => by omega)).mono (by omega), ?_, fun q => ((c6 q).j kk (fun u v q => by omega)).mono (by omega), ?_, fun k hk => ?_⟩
            · refine c2.keep ⟨l, fun u hu hn => ⟨r u ?_ ?_ ?_, rfl, rfl⟩⟩ rfl (Nat.le_refl _) <;> (unfold tx at hu; omega)
            · show mI (wI (wI (wI σ 1 2 (nI (G.t ||| 2 ^ p))) 2 p (nI x)) 3 p (nI y)) 1 2 = _
              rw [mI_wn (by decide), mI_wn (by decide), mI_ws]
            · obtain ⟨e1, e2, e3, e4⟩ := c3.2.2 q hq
              show mI (wI (wI (wI σ 1 2 (nI (G.t ||| 2 ^ p))) 2 p (nI x)) 3 p (nI y)) 2 q = nI (updF G.xs p x q) ∧ mI (wI (wI (wI σ 1 2 (nI (G.t ||| 2 ^ p))) 2 p (nI x)) 3 p (nI y)) 3 q = nI (updF G.ys p y q) ∧ updF G.xs p x q < 10 ∧ updF G.ys p y q < 10
              unfold updF
              by_cases cq : q = p
              · subst cq
                rw [if_pos rfl, if_pos rfl, mI_wn (show 2 ≠ 3 by decide), mI_ws, mI_ws]
                exact ⟨rfl, rfl, hx, hy⟩
              · rw [if_neg cq, if_neg cq, mI_wn (show 2 ≠ 3 by decide), mI_wy cq, mI_wn (show 2 ≠ 1 by decide), mI_wy cq, mI_wn (show 3 ≠ 2 by decide), mI_wn (show 3 ≠ 1 by decide)]
                exact ⟨e1, e2, e3, e4⟩
            · rw [r1 10 (by decide)]; exact c5
            · rw [r1 9 (by decide)]; exact c7
            · rw [r 50 (by decide) (by decide) (by decide)]; exact c8 k hk
        · have l := h.l
          have l1 : lay (wI τ 85 5 (nI (G.t ||| 2 ^ p))) := l
          have l2 : lay (wI (wI τ 85 5 (nI (G.t ||| 2 ^ p))) 89 p (nI x)) := l
          have hm : mI τ 85 5 = nI G.t := h.1.2.2.1
          have kk : kj (fun u v => (u = 85 ∧ v = 5) ∨ u = 89 ∨ u = 90) τ (wI (wI (wI τ 85 5 (nI (G.t ||| 2 ^ p))) 89 p (nI x)) 90 p (nI y)) := (kj.w (Or.inl ⟨rfl, rfl⟩)).trans ((kj.w (Or.inr (Or.inl rfl))).trans (kj.w (Or.inr (Or.inr rfl))))
          refine ⟨_, ?_, kk.mono (fun u v q => by unfold rY; omega), ?_⟩
          · (try dsimp only)
            rw [if_pos (T85 l), e9, inM_yes (by omega) (by decide), bq_some, if_neg (by decide), inM_yes (by omega) (by decide), bq_some, if_neg (by decide), inM_yes (by omega) (by decide), bq_some, if_neg (by decide), gI_T (T85 l), Option.bind_some, hm, bx_one (by omega), bx_or, pI_T (T85 l), Option.bind_some, gP_T (T85 l1), Option.bind_some, P85_3 l1, sI_T (by rw [T89 l1]) (by rw [T89 l1]; exact hp) (by rw [T89 l1]; decide), Option.bind_some, gP_T (T85 l2), Option.bind_some, P85_4 l2, sI_T (by rw [T90 l2]) (by rw [T90 l2]; exact hp) (by rw [T90 l2]; decide), Option.bind_some]
          · obtain ⟨⟨c1, c2, c3⟩, c4, c5, c6, c7, c8⟩ := h
            have r : ∀ a, a ≠ 85 → a ≠ 89 → a ≠ 90 → mI (wI (wI (wI τ 85 5 (nI (G.t ||| 2 ^ p))) 89 p (nI x)) 90 p (nI y)) a = mI τ a := fun a u1 u2 u3 => by rw [mI_wn u3, mI_wn u2, mI_wn u1]
            have r1 : ∀ j, j ≠ 5 → mI (wI (wI (wI τ 85 5 (nI (G.t ||| 2 ^ p))) 89 p (nI x)) 90 p (nI y)) 85 j = mI τ 85 j := fun j u => by rw [mI_wn (by decide), mI_wn (by decide), mI_wy u]
            refine ⟨⟨l, ?_, ?_, hlt, fun q hq => ?_⟩, c4.j kk (fun u v q => by omega), ?_, fun q => (c6 q).j kk (fun u v q => by omega), ?_, fun k hk => ?_⟩
            · exact c2.keep ⟨l, r1 16 (by decide), fun u u1 u2 => r u (by omega) (by omega) (by omega)⟩
            · show mI (wI (wI (wI τ 85 5 (nI (G.t ||| 2 ^ p))) 89 p (nI x)) 90 p (nI y)) 85 5 = _
              rw [mI_wn (by decide), mI_wn (by decide), mI_ws]
            · obtain ⟨e1, e2, e3, e4⟩ := c3.2.2 q hq
              show mI (wI (wI (wI τ 85 5 (nI (G.t ||| 2 ^ p))) 89 p (nI x)) 90 p (nI y)) 89 q = nI (updF G.xs p x q) ∧ mI (wI (wI (wI τ 85 5 (nI (G.t ||| 2 ^ p))) 89 p (nI x)) 90 p (nI y)) 90 q = nI (updF G.ys p y q) ∧ updF G.xs p x q < 10 ∧ updF G.ys p y q < 10
              unfold updF
              by_cases cq : q = p
              · subst cq
                rw [if_pos rfl, if_pos rfl, mI_wn (show 89 ≠ 90 by decide), mI_ws, mI_ws]
                exact ⟨rfl, rfl, hx, hy⟩
              · rw [if_neg cq, if_neg cq, mI_wn (show 89 ≠ 90 by decide), mI_wy cq, mI_wn (show 89 ≠ 85 by decide), mI_wy cq, mI_wn (show 90 ≠ 89 by decide), mI_wn (show 90 ≠ 85 by decide)]
                exact ⟨e1, e2, e3, e4⟩
            · rw [r1 61 (by decide)]; exact c5
            · rw [r1 7 (by decide)]; exact c7
            · rw [r 91 (by decide) (by decide) (by decide)]; exact c8 k hk
      · refine call_look hG 0 (fun σ h => ?_) (fun τ h => ?_)
        · (try dsimp only)
          rw [if_pos (T1 h.l), e10, in_yes hp (by decide), bq_some, if_neg (by decide), in_yes hx (by decide), bq_some, if_neg (by decide), n1, bq_some, if_pos rfl]
        · (try dsimp only)
          rw [if_pos (T85 h.l), e9, inM_yes (by omega) (by decide), bq_some, if_neg (by decide), inM_yes (by omega) (by decide), bq_some, if_neg (by decide), n2, bq_some, if_pos rfl]
    · refine call_look hG 0 (fun σ h => ?_) (fun τ h => ?_)
      · (try dsimp only)
        rw [if_pos (T1 h.l), e10, in_yes hp (by decide), bq_some, if_neg (by decide), n1, bq_some, if_pos rfl]
      · (try dsimp only)
        rw [if_pos (T85 h.l), e9, inM_yes (by omega) (by decide), bq_some, if_neg (by decide), n2, bq_some, if_pos rfl]
  · refine call_look hG 0 (fun σ h => ?_) (fun τ h => ?_)
    · (try dsimp only)
      rw [if_pos (T1 h.l), e10, n1, bq_some, if_pos rfl]
    · (try dsimp only)
      rw [if_pos (T85 h.l), e9, n2, bq_some, if_pos rfl]
end SIMPLE
