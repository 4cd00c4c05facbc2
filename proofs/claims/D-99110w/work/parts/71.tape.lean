/-! THE TAPE, the check, what is told -/
section TAPE
variable {B F : Nat} {G : GG}
abbrev GG.wN (G : GG) (n : Nat) (tp : Nat → Int32) : GG := mkG G.L G.t G.xs G.ys G.S G.kf G.K n tp
theorem CI.upN {σ σ' : MM} {R : Nat → Nat → Prop} {n : Nat} {tp : Nat → Int32} (h : CI B σ G) (g : kj R σ σ') (hR : ∀ x y, R x y → x = 50 ∨ (x = 1 ∧ y = 9) ∨ rSC x y) (h1 : mI σ' 1 9 = nI n) (h2 : ∀ k, k < n → mI σ' 50 k = tp k) : CI B σ' (G.wN n tp) := by
  have g := g.mono hR
  obtain ⟨c1, c2, c3, c4, c5, c6⟩ := h
  refine ⟨c1.j g (fun x y q => ?_), c2.j g (fun x y q => ?_), ?_, fun q => (c4 q).j g (fun x y q => ?_), h1, h2⟩
  · unfold rSC at q; unfold rC; omega
  · unfold rSC at q; omega
  · rw [g.2 1 10 (by unfold rSC; omega)]; exact c3
  · unfold rSC at q; omega
theorem MI.upN {σ σ' : MM} {R : Nat → Nat → Prop} {n : Nat} {tp : Nat → Int32} (h : MI σ G) (g : kj R σ σ') (hR : ∀ x y, R x y → x = 91 ∨ (x = 85 ∧ y = 7) ∨ rSM x y) (h1 : mI σ' 85 7 = nI n) (h2 : ∀ k, k < n → mI σ' 91 k = tp k) : MI σ' (G.wN n tp) := by
  have g := g.mono hR
  obtain ⟨c1, c2, c3, c4, c5, c6⟩ := h
  refine ⟨c1.j g (fun x y q => ?_), c2.j g (fun x y q => ?_), ?_, fun q => (c4 q).j g (fun x y q => ?_), h1, h2⟩
  · unfold rSM at q; unfold rM; omega
  · unfold rSM at q; omega
  · rw [g.2 85 61 (by unfold rSM; omega)]; exact c3
  · unfold rSM at q; omega
theorem upN_rX {σ σ' : MM} {R : Nat → Nat → Prop} (hR : ∀ x y, R x y → x = 50 ∨ (x = 1 ∧ y = 9) ∨ rSC x y) (g : kj R σ σ') : kj rX σ σ' := g.mono (fun x y q => by
  have := hR x y q
  unfold rSC at this
  unfold rX
  omega)
theorem upN_rY {σ σ' : MM} {R : Nat → Nat → Prop} (hR : ∀ x y, R x y → x = 91 ∨ (x = 85 ∧ y = 7) ∨ rSM x y) (g : kj R σ σ') : kj rY σ σ' := g.mono (fun x y q => by
  have := hR x y q
  unfold rSM at this
  unfold rY
  omega)
theorem GW.upN {n : Nat} {tp : Nat → Int32} (h : GW B G) (hn : n ≤ 260) : GW (B + 300) (G.wN n tp) := by
  obtain ⟨h1, h2, h3, h4, h5, h6, h7, h8⟩ := h
  exact ⟨h1, h2, h3.mono (by omega), h4, h5, fun q => ⟨(h6 q).1.mono (by omega), (h6 q).2⟩, hn, h8⟩
def bt (v : Int32) (k : Nat) : Int32 := vp_nar .byte ((v >>> (nI (8 * k) &&& 31)).toInt8.toInt32)
def pushT (f : Nat → Int32) (n : Nat) (v : Int32) : Nat → Int32 := fun k => if k = n + 3 then bt v 0 else if k = n + 2 then bt v 1 else if k = n + 1 then bt v 2 else if k = n then bt v 3 else f k
theorem e_X0_push {σ : MM} {n : Nat} {v : Int32} (l : lay σ) (h : mI σ 1 9 = nI n) (hn : n + 4 ≤ 260) (hF : 100000 ≤ F) : ∃ σ', g_X0_push F σ 1 v = some σ' ∧ kj (fun x y => x = 50 ∨ (x = 1 ∧ y = 9)) σ σ' ∧ mI σ' 1 9 = nI (n + 4) ∧ ∀ k, mI σ' 50 k = pushT (mI σ 50) n v k := by
  have step : ∀ (s : MM) (f n : Nat) (z z' : Int32) (b : Int32), lay s → mI s 1 9 = nI n → n < 260 → ¬ z < 0 → z + (-8) = z' → vp_nar .byte ((v >>> (z &&& 31)).toInt8.toInt32) = b → l_X0_push_3 (fun (σ6 : MM) => some σ6) F 1 v (f + 1) z s = l_X0_push_3 (fun (σ6 : MM) => some σ6) F 1 v f z' (wI (wI s 50 n b) 1 9 (nI (n + 1))) ∧ mI (wI (wI s 50 n b) 1 9 (nI (n + 1))) 1 9 = nI (n + 1) ∧ (∀ k, mI (wI (wI s 50 n b) 1 9 (nI (n + 1))) 50 k = if k = n then b else mI s 50 k) := by
    intro s f n z z' b ls h9 hn hz hz' hb
    have l2 : lay (wI s 50 n b) := ls
    have e9 : mI (wI s 50 n b) 1 9 = nI n := by rw [mI_wn (by decide), h9]
    refine ⟨?_, mI_ws, fun k => ?_⟩
    · rw [l_X0_push_3.eq_2, if_neg hz, gP_T (T1 ls), Option.bind_some, P1_7 ls, gI_T (T1 ls), Option.bind_some, h9, sB_T (by rw [T50 ls]) (by rw [T50 ls]; exact hn) (by rw [T50 ls]; decide), hb, Option.bind_some, gI_T (T1 l2), Option.bind_some, e9, nI_1, pI_T (T1 l2), Option.bind_some, hz']
    · rw [mI_wn (by decide)]
      by_cases c : k = n
      · rw [if_pos c, c, mI_ws]
      · rw [if_neg c, mI_wy c]
  obtain ⟨f, rfl⟩ : ∃ f, F = f + 5 := ⟨F - 5, by omega⟩
  unfold g_X0_push
  rw [if_pos (T1 l)]
  obtain ⟨a1, a2, a3⟩ := step σ (f + 4) n 24 16 (bt v 3) l h (by omega) (by decide) (by decide) rfl
  rw [a1]
  have k1 : kj (fun x y => x = 50 ∨ (x = 1 ∧ y = 9)) σ (wI (wI σ 50 n (bt v 3)) 1 9 (nI (n + 1))) := (kj.w (Or.inl rfl)).trans (kj.w (Or.inr ⟨rfl, rfl⟩))
  generalize wI (wI σ 50 n (bt v 3)) 1 9 (nI (n + 1)) = s1 at a2 a3 k1 ⊢
  obtain ⟨b1, b2, b3⟩ := step s1 (f + 3) (n + 1) 16 8 (bt v 2) (k1.ly l) a2 (by omega) (by decide) (by decide) rfl
  rw [b1]
  have k2 : kj (fun x y => x = 50 ∨ (x = 1 ∧ y = 9)) s1 (wI (wI s1 50 (n + 1) (bt v 2)) 1 9 (nI (n + 1 + 1))) := (kj.w (Or.inl rfl)).trans (kj.w (Or.inr ⟨rfl, rfl⟩))
  generalize wI (wI s1 50 (n + 1) (bt v 2)) 1 9 (nI (n + 1 + 1)) = s2 at b2 b3 k2 ⊢
  obtain ⟨c1, c2, c3⟩ := step s2 (f + 2) (n + 2) 8 0 (bt v 1) ((k1.trans k2).ly l) b2 (by omega) (by decide) (by decide) rfl
  rw [c1]
  have k3 : kj (fun x y => x = 50 ∨ (x = 1 ∧ y = 9)) s2 (wI (wI s2 50 (n + 2) (bt v 1)) 1 9 (nI (n + 2 + 1))) := (kj.w (Or.inl rfl)).trans (kj.w (Or.inr ⟨rfl, rfl⟩))
  generalize wI (wI s2 50 (n + 2) (bt v 1)) 1 9 (nI (n + 2 + 1)) = s3 at c2 c3 k3 ⊢
  obtain ⟨d1, d2, d3⟩ := step s3 (f + 1) (n + 3) 0 (-8) (bt v 0) (((k1.trans k2).trans k3).ly l) c2 (by omega) (by decide) (by decide) rfl
  rw [d1]
  have k4 : kj (fun x y => x = 50 ∨ (x = 1 ∧ y = 9)) s3 (wI (wI s3 50 (n + 3) (bt v 0)) 1 9 (nI (n + 3 + 1))) := (kj.w (Or.inl rfl)).trans (kj.w (Or.inr ⟨rfl, rfl⟩))
  generalize wI (wI s3 50 (n + 3) (bt v 0)) 1 9 (nI (n + 3 + 1)) = s4 at d2 d3 k4 ⊢
  rw [l_X0_push_3.eq_2, if_pos (by decide)]
  refine ⟨s4, rfl, ((k1.trans k2).trans k3).trans k4, d2, fun k => ?_⟩
  rw [d3, c3, b3, a3]
  rfl
theorem e_X6_types {σ : MM} {n : Nat} {v : Int32} (l : lay σ) (h : mI σ 85 7 = nI n) (hn : n + 4 ≤ 260) (hF : 100000 ≤ F) : ∃ σ', g_X6_types F σ 85 v = some σ' ∧ kj (fun x y => x = 91 ∨ (x = 85 ∧ y = 7)) σ σ' ∧ mI σ' 85 7 = nI (n + 4) ∧ ∀ k, mI σ' 91 k = pushT (mI σ 91) n v k := by
  have step : ∀ (s : MM) (f n : Nat) (z z' : Int32) (b : Int32), lay s → mI s 85 7 = nI n → n < 260 → ¬ z < 0 → z + (-1) = z' → vp_nar .byte ((v >>> ((8 * z) &&& 31)).toInt8.toInt32) = b → l_X6_types_2 (fun (σ6 : MM) => some σ6) F 85 v (f + 1) z s = l_X6_types_2 (fun (σ6 : MM) => some σ6) F 85 v f z' (wI (wI s 91 n b) 85 7 (nI (n + 1))) ∧ mI (wI (wI s 91 n b) 85 7 (nI (n + 1))) 85 7 = nI (n + 1) ∧ (∀ k, mI (wI (wI s 91 n b) 85 7 (nI (n + 1))) 91 k = if k = n then b else mI s 91 k) := by
    intro s f n z z' b ls h9 hn hz hz' hb
    have l2 : lay (wI s 91 n b) := ls
    have e9 : mI (wI s 91 n b) 85 7 = nI n := by rw [mI_wn (by decide), h9]
    refine ⟨?_, mI_ws, fun k => ?_⟩
    · rw [l_X6_types_2.eq_2, if_neg hz, gP_T (T85 ls), Option.bind_some, P85_6 ls, gI_T (T85 ls), Option.bind_some, h9, sB_T (by rw [T91 ls]) (by rw [T91 ls]; exact hn) (by rw [T91 ls]; decide), hb, Option.bind_some, gI_T (T85 l2), Option.bind_some, e9, nI_1, pI_T (T85 l2), Option.bind_some, hz']
    · rw [mI_wn (by decide)]
      by_cases c : k = n
      · rw [if_pos c, c, mI_ws]
      · rw [if_neg c, mI_wy c]
  obtain ⟨f, rfl⟩ : ∃ f, F = f + 5 := ⟨F - 5, by omega⟩
  unfold g_X6_types
  rw [if_pos (T85 l)]
  obtain ⟨a1, a2, a3⟩ := step σ (f + 4) n 3 2 (bt v 3) l h (by omega) (by decide) (by decide) rfl
  rw [a1]
  have k1 : kj (fun x y => x = 91 ∨ (x = 85 ∧ y = 7)) σ (wI (wI σ 91 n (bt v 3)) 85 7 (nI (n + 1))) := (kj.w (Or.inl rfl)).trans (kj.w (Or.inr ⟨rfl, rfl⟩))
  generalize wI (wI σ 91 n (bt v 3)) 85 7 (nI (n + 1)) = s1 at a2 a3 k1 ⊢
  obtain ⟨b1, b2, b3⟩ := step s1 (f + 3) (n + 1) 2 1 (bt v 2) (k1.ly l) a2 (by omega) (by decide) (by decide) rfl
  rw [b1]
  have k2 : kj (fun x y => x = 91 ∨ (x = 85 ∧ y = 7)) s1 (wI (wI s1 91 (n + 1) (bt v 2)) 85 7 (nI (n + 1 + 1))) := (kj.w (Or.inl rfl)).trans (kj.w (Or.inr ⟨rfl, rfl⟩))
  generalize wI (wI s1 91 (n + 1) (bt v 2)) 85 7 (nI (n + 1 + 1)) = s2 at b2 b3 k2 ⊢
  obtain ⟨c1, c2, c3⟩ := step s2 (f + 2) (n + 2) 1 0 (bt v 1) ((k1.trans k2).ly l) b2 (by omega) (by decide) (by decide) rfl
  rw [c1]
  have k3 : kj (fun x y => x = 91 ∨ (x = 85 ∧ y = 7)) s2 (wI (wI s2 91 (n + 2) (bt v 1)) 85 7 (nI (n + 2 + 1))) := (kj.w (Or.inl rfl)).trans (kj.w (Or.inr ⟨rfl, rfl⟩))
  generalize wI (wI s2 91 (n + 2) (bt v 1)) 85 7 (nI (n + 2 + 1)) = s3 at c2 c3 k3 ⊢
  obtain ⟨d1, d2, d3⟩ := step s3 (f + 1) (n + 3) 0 (-1) (bt v 0) (((k1.trans k2).trans k3).ly l) c2 (by omega) (by decide) (by decide) rfl
  rw [d1]
  have k4 : kj (fun x y => x = 91 ∨ (x = 85 ∧ y = 7)) s3 (wI (wI s3 91 (n + 3) (bt v 0)) 85 7 (nI (n + 3 + 1))) := (kj.w (Or.inl rfl)).trans (kj.w (Or.inr ⟨rfl, rfl⟩))
  generalize wI (wI s3 91 (n + 3) (bt v 0)) 85 7 (nI (n + 3 + 1)) = s4 at d2 d3 k4 ⊢
  rw [l_X6_types_2.eq_2, if_pos (by decide)]
  refine ⟨s4, rfl, ((k1.trans k2).trans k3).trans k4, d2, fun k => ?_⟩
  rw [d3, c3, b3, a3]
  rfl
theorem pushT_congr {f g : Nat → Int32} {n : Nat} {v : Int32} (h : ∀ k, k < n → f k = g k) : ∀ k, k < n + 4 → pushT f n v k = pushT g n v k := by
  intro k hk
  unfold pushT
  by_cases c3 : k = n + 3
  · rw [if_pos c3, if_pos c3]
  · rw [if_neg c3, if_neg c3]
    by_cases c2 : k = n + 2
    · rw [if_pos c2, if_pos c2]
    · rw [if_neg c2, if_neg c2]
      by_cases c1 : k = n + 1
      · rw [if_pos c1, if_pos c1]
      · rw [if_neg c1, if_neg c1]
        by_cases c0 : k = n
        · rw [if_pos c0, if_pos c0]
        · rw [if_neg c0, if_neg c0]; exact h k (by omega)
theorem call_feed (hG : GW B G) (hF : 100000 ≤ F) (a b c d e : Int32) : Call B G (fun σ => g_X0_feed F σ 1 a b c d e) (fun τ => g_X6_feed F τ 85 a b c d e) := by
  unfold g_X0_feed g_X6_feed
  have h260 := hG.2.2.2.2.2.2.1
  by_cases hn : 260 < G.n + 20
  · refine call_look hG (-1) (fun σ h => ?_) (fun τ h => ?_)
    · (try dsimp only)
      rw [if_pos (T1 h.l), gI_T (T1 h.l), Option.bind_some, h.2.2.2.2.1, show (20 : Int32) = nI 20 from rfl, nI_add, if_pos (show 260 < nI (G.n + 20) from nI_lt (a := 260) hn (by omega))]
    · (try dsimp only)
      rw [if_pos (T85 h.l), gI_T (T85 h.l), Option.bind_some, h.2.2.2.2.1, show (20 : Int32) = nI 20 from rfl, nI_add, if_pos (show 260 < nI (G.n + 20) from nI_lt (a := 260) hn (by omega))]
  · refine ⟨nI (G.n + 20), G.wN (G.n + 20) (pushT (pushT (pushT (pushT (pushT G.tp G.n a) (G.n + 4) b) (G.n + 8) c) (G.n + 12) d) (G.n + 16) e), hG.upN (by omega), fun σ h => ?_, fun τ h => ?_⟩
    · obtain ⟨s1, e1, k1, n1, f1⟩ := e_X0_push (F := F) (v := a) h.l h.2.2.2.2.1 (by omega) hF
      obtain ⟨s2, e2, k2, n2, f2⟩ := e_X0_push (F := F) (v := b) (k1.ly h.l) n1 (by omega) hF
      obtain ⟨s3, e3, k3, n3, f3⟩ := e_X0_push (F := F) (v := c) ((k1.trans k2).ly h.l) n2 (by omega) hF
      obtain ⟨s4, e4, k4, n4, f4⟩ := e_X0_push (F := F) (v := d) (((k1.trans k2).trans k3).ly h.l) n3 (by omega) hF
      obtain ⟨s5, e5, k5, n5, f5⟩ := e_X0_push (F := F) (v := e) ((((k1.trans k2).trans k3).trans k4).ly h.l) n4 (by omega) hF
      have k := (((k1.trans k2).trans k3).trans k4).trans k5
      have r : ∀ x y, (fun x y => x = 50 ∨ (x = 1 ∧ y = 9)) x y → x = 50 ∨ (x = 1 ∧ y = 9) ∨ rSC x y := fun x y q => q.elim Or.inl (fun q => Or.inr (Or.inl q))
      refine ⟨s5, ?_, upN_rX r k, (h.upN k r n5 (fun k hk => ?_)).mono (by omega)⟩
      · (try dsimp only)
        rw [if_pos (T1 h.l), gI_T (T1 h.l), Option.bind_some, h.2.2.2.2.1, show (20 : Int32) = nI 20 from rfl, nI_add, if_neg (show ¬ 260 < nI (G.n + 20) from nI_nlt (a := 260) (by omega) (by decide)), e1, Option.bind_some, e2, Option.bind_some, e3, Option.bind_some, e4, Option.bind_some, e5, Option.bind_some, gI_T (T1 (k.ly h.l)), Option.bind_some, n5]
      · rw [f5]
        refine pushT_congr (fun k hk => ?_) k (by omega)
        rw [f4]
        refine pushT_congr (fun k hk => ?_) k (by omega)
        rw [f3]
        refine pushT_congr (fun k hk => ?_) k (by omega)
        rw [f2]
        refine pushT_congr (fun k hk => ?_) k (by omega)
        rw [f1]
        exact pushT_congr h.2.2.2.2.2 k (by omega)
    · obtain ⟨s1, e1, k1, n1, f1⟩ := e_X6_types (F := F) (v := a) h.l h.2.2.2.2.1 (by omega) hF
      obtain ⟨s2, e2, k2, n2, f2⟩ := e_X6_types (F := F) (v := b) (k1.ly h.l) n1 (by omega) hF
      obtain ⟨s3, e3, k3, n3, f3⟩ := e_X6_types (F := F) (v := c) ((k1.trans k2).ly h.l) n2 (by omega) hF
      obtain ⟨s4, e4, k4, n4, f4⟩ := e_X6_types (F := F) (v := d) (((k1.trans k2).trans k3).ly h.l) n3 (by omega) hF
      obtain ⟨s5, e5, k5, n5, f5⟩ := e_X6_types (F := F) (v := e) ((((k1.trans k2).trans k3).trans k4).ly h.l) n4 (by omega) hF
      have k := (((k1.trans k2).trans k3).trans k4).trans k5
      have r : ∀ x y, (fun x y => x = 91 ∨ (x = 85 ∧ y = 7)) x y → x = 91 ∨ (x = 85 ∧ y = 7) ∨ rSM x y := fun x y q => q.elim Or.inl (fun q => Or.inr (Or.inl q))
      refine ⟨s5, ?_, upN_rY r k, h.upN k r n5 (fun k hk => ?_)⟩
      · (try dsimp only)
        rw [if_pos (T85 h.l), gI_T (T85 h.l), Option.bind_some, h.2.2.2.2.1, show (20 : Int32) = nI 20 from rfl, nI_add, if_neg (show ¬ 260 < nI (G.n + 20) from nI_nlt (a := 260) (by omega) (by decide)), e1, Option.bind_some, e2, Option.bind_some, e3, Option.bind_some, e4, Option.bind_some, e5, Option.bind_some, gI_T (T85 (k.ly h.l)), Option.bind_some, n5]
      · rw [f5]
        refine pushT_congr (fun k hk => ?_) k (by omega)
        rw [f4]
        refine pushT_congr (fun k hk => ?_) k (by omega)
        rw [f3]
        refine pushT_congr (fun k hk => ?_) k (by omega)
        rw [f2]
        refine pushT_congr (fun k hk => ?_) k (by omega)
        rw [f1]
        exact pushT_congr h.2.2.2.2.2 k (by omega)
/-- how much is told -/
def cntS (G : GG) (w : Int32) : Int32 := if w = 0 then nI G.t else if w = 1 then nI (allS G.S.1) else if w = 2 then qv (G.S.2.2.2 0) else if w = 3 then qv (G.S.2.2.2 1) else if w = 4 then nI (if G.S.2.2.2 1 < 10 then G.S.2.2.2 3 else 0) else if w = 5 then nI (G.S.2.2.2 4) else if w = 6 then nI (G.S.2.2.2 5) else if w = 7 then nI (G.S.2.2.2 6) else if w = 8 then nI G.S.2.2.1.length else if w = 9 then nI G.L.1 else if w = 10 then nI G.n else if w = 11 then nI (G.S.2.2.2 7) else -1
theorem call_count (hG : GW B G) (hB : B < 900000) (hF : 100000 ≤ F) (w : Int32) : Call B G (fun σ => g_X0_count F σ 1 w) (fun τ => g_X6_count F τ 85 w) := by
  unfold g_X0_count g_X6_count
  have h0 := hG.2.2.1.2.2.1
  have h1 := hG.2.2.1.2.2.2.1
  have h6 := hG.2.2.1.2.2.2.2.2.2.2.2.1
  refine call_look hG (cntS G w) (fun σ h => ?_) (fun τ h => ?_)
  · (try dsimp only)
    have l := h.l
    have hr := e_X3_rows (F := F) l d5 h.2.1 (by omega)
    obtain ⟨c1, c2, c3, c4, c5, c6, c7, c8, c9, c10⟩ := h.2.1
    have gP4 : gP σ 1 0 22 4 = some 5 := by rw [gP_T (T1 l), P1_4 l]
    have g3 : gI σ 5 2 16 3 = some (pv (G.S.2.2.2 0)) := by rw [gI_T (T5 l), c4]
    have g5 : gI σ 5 2 16 5 = some (pv (G.S.2.2.2 1)) := by rw [gI_T (T5 l), c5]
    rw [if_pos (T1 l)]
    unfold cntS
    by_cases w0 : w = 0
    · rw [if_pos w0, if_pos w0, gI_T (T1 l), Option.bind_some, h.1.2.2.1]
    rw [if_neg w0, if_neg w0]
    by_cases w1 : w = 1
    · rw [if_pos w1, if_pos w1, gP4, Option.bind_some, dbP l d5, Option.bind_some, e_X4_all (d5.B l) c1 (by omega), bq_some]
    rw [if_neg w1, if_neg w1]
    by_cases w2 : w = 2
    · rw [if_pos w2, if_pos w2, gP4, Option.bind_some, g3, Option.bind_some, Option.bind_some, g3]
      exact hold_if h0
    rw [if_neg w2, if_neg w2]
    by_cases w3 : w = 3
    · rw [if_pos w3, if_pos w3, gP4, Option.bind_some, g5, Option.bind_some, Option.bind_some, g5]
      exact hold_if h1
    rw [if_neg w3, if_neg w3]
    by_cases w4 : w = 4
    · rw [if_pos w4, if_pos w4, gP4, Option.bind_some, g5, Option.bind_some, Option.bind_some]
      by_cases c : G.S.2.2.2 1 < 10
      · rw [if_neg (pv_ne c), if_pos c, gI_T (T5 l), Option.bind_some, (c6 c).2]
      · have e10 : G.S.2.2.2 1 = 10 := by omega
        rw [e10, if_pos pv_10, if_neg (by decide)]
        rfl
    rw [if_neg w4, if_neg w4]
    by_cases w5 : w = 5
    · rw [if_pos w5, if_pos w5, gP4, Option.bind_some, gI_T (T5 l), Option.bind_some, c7]
    rw [if_neg w5, if_neg w5]
    by_cases w6 : w = 6
    · rw [if_pos w6, if_pos w6, gP4, Option.bind_some, gI_T (T5 l), Option.bind_some, c8]
    rw [if_neg w6, if_neg w6]
    by_cases w7 : w = 7
    · rw [if_pos w7, if_pos w7, gP4, Option.bind_some, gI_T (T5 l), Option.bind_some, c9]
      rcases (show G.S.2.2.2 6 = 0 ∨ G.S.2.2.2 6 = 1 by omega) with e | e
      · rw [e, if_pos (show nI 0 = 0 from rfl)]; rfl
      · rw [e, if_neg (show ¬ nI 1 = 0 by decide)]; rfl
    rw [if_neg w7, if_neg w7]
    by_cases w8 : w = 8
    · rw [if_pos w8, if_pos w8, gP4, Option.bind_some, hr, bq_some]
    rw [if_neg w8, if_neg w8]
    by_cases w9 : w = 9
    · rw [if_pos w9, if_pos w9, gP_T (T1 l), Option.bind_some, gI_T h.1.2.1.2.2.1, Option.bind_some, h.1.2.1.2.2.2.1]
    rw [if_neg w9, if_neg w9]
    by_cases w10 : w = 10
    · rw [if_pos w10, if_pos w10, gI_T (T1 l), Option.bind_some, h.2.2.2.2.1]
    rw [if_neg w10, if_neg w10]
    by_cases w11 : w = 11
    · rw [if_pos w11, if_pos w11, gP4, Option.bind_some, gI_T (T5 l), Option.bind_some, c10]
    rw [if_neg w11, if_neg w11]
  · (try dsimp only)
    have l := h.l
    obtain ⟨m1, m2, ⟨m3, m4⟩, m5, m6, m7, m8, m9, m10, m11, m12⟩ := h.2.1
    rw [if_pos (T85 l)]
    unfold cntS
    by_cases w0 : w = 0
    · rw [if_pos w0, if_pos w0, gI_T (T85 l), Option.bind_some, h.1.2.2.1]
    rw [if_neg w0, if_neg w0]
    by_cases w1 : w = 1
    · rw [if_pos w1, if_pos w1, e_X6_owedInAll l m1 (by omega), bq_some]
    rw [if_neg w1, if_neg w1]
    by_cases w2 : w = 2
    · rw [if_pos w2, if_pos w2, gN l, Option.bind_some, a151 l, Option.bind_some, m5]
    rw [if_neg w2, if_neg w2]
    by_cases w3 : w = 3
    · rw [if_pos w3, if_pos w3, gN l, Option.bind_some, a153 l, Option.bind_some, m6]
    rw [if_neg w3, if_neg w3]
    by_cases w4 : w = 4
    · rw [if_pos w4, if_pos w4, gN l, Option.bind_some, a154 l, Option.bind_some, m8]
    rw [if_neg w4, if_neg w4]
    by_cases w5 : w = 5
    · rw [if_pos w5, if_pos w5, gN l, Option.bind_some, a155 l, Option.bind_some, m9]
    rw [if_neg w5, if_neg w5]
    by_cases w6 : w = 6
    · rw [if_pos w6, if_pos w6, gN l, Option.bind_some, a156 l, Option.bind_some, m10]
    rw [if_neg w6, if_neg w6]
    by_cases w7 : w = 7
    · rw [if_pos w7, if_pos w7, gN l, Option.bind_some, a157 l, Option.bind_some, m11]
    rw [if_neg w7, if_neg w7]
    by_cases w8 : w = 8
    · rw [if_pos w8, if_pos w8, gN l, Option.bind_some, a150 l, Option.bind_some, m3]
    rw [if_neg w8, if_neg w8]
    by_cases w9 : w = 9
    · rw [if_pos w9, if_pos w9, gI_T (T85 l), Option.bind_some, h.1.2.1.1]
    rw [if_neg w9, if_neg w9]
    by_cases w10 : w = 10
    · rw [if_pos w10, if_pos w10, gI_T (T85 l), Option.bind_some, h.2.2.2.2.1]
    rw [if_neg w10, if_neg w10]
    by_cases w11 : w = 11
    · rw [if_pos w11, if_pos w11, gN l, Option.bind_some, a158 l, Option.bind_some, m12]
    rw [if_neg w11, if_neg w11]
/-- the check: the first that differs -/
def chkS (G : GG) (n : Nat) : Nat → Nat → Int32
  | 0, _ => -1
  | m + 1, k => if (G.tp k &&& 255) = nI (if G.t.testBit k = true then min 255 (owesS G.S.1 k) else 0) then chkS G n m (k + 1) else nI k
theorem call_check (hG : GW B G) (hF : 100000 ≤ F) (a : Int32) : Call B G (fun σ => g_X0_check F σ 1 a) (fun τ => g_X6_check F τ 85 a) := by
  unfold g_X0_check g_X6_check
  have h260 := hG.2.2.2.2.2.2.1
  have e0 : (0 : Int32) = nI 0 := rfl
  rcases within_is (x := a) (l := 0) (m := 10) (by decide) (by decide) with ⟨n, -, hn, rfl, y1, y2⟩ | ⟨n1, n2⟩
  · by_cases c : G.n < n
    · refine call_look hG (-2) (fun σ h => ?_) (fun τ h => ?_)
      · (try dsimp only)
        rw [if_pos (T1 h.l), show g_X0_within F σ (nI n) 0 10 = _ from y1 F σ, bq_some, if_neg (by decide), gI_T (T1 h.l), Option.bind_some, h.2.2.2.2.1, if_pos (nI_lt c (by omega))]
      · (try dsimp only)
        rw [if_pos (T85 h.l), show g_X6_in F τ (nI n) 0 10 = _ from y2 F τ, bq_some, if_neg (by decide), gI_T (T85 h.l), Option.bind_some, h.2.2.2.2.1, if_pos (nI_lt c (by omega))]
    · have ow : ∀ k, k < 10 → owesS G.S.1 k ≤ 990 := fun k hk => Nat.le_trans (sm_le (M := 99) 10 (fun j hj => hG.2.2.1.b99 k hk j hj)) (by decide)
      refine ⟨chkS G n n 0, G.wN 0 G.tp, hG.upN (by omega), fun σ h => ?_, fun τ h => ?_⟩
      · have k0 : kj (fun x y => x = 1 ∧ y = 9) σ (wI σ 1 9 0) := kj.w ⟨rfl, rfl⟩
        have r : ∀ x y, (fun x y => x = 1 ∧ y = 9) x y → x = 50 ∨ (x = 1 ∧ y = 9) ∨ rSC x y := fun x y q => Or.inr (Or.inl q)
        have l1 : lay (wI σ 1 9 0) := h.l
        have K1 : CK (wI σ 1 9 0) G.L G.t G.xs G.ys := h.1.j k0 (fun x y q => by unfold rC; omega)
        have C1 : CD B (wI σ 1 9 0) 5 G.S := h.2.1.j k0 (fun x y q => by omega)
        refine ⟨wI σ 1 9 0, ?_, upN_rX r k0, (h.upN (n := 0) (tp := G.tp) k0 r mI_ws (fun k hk => absurd hk (Nat.not_lt_zero k))).mono (by omega)⟩
        (try dsimp only)
        rw [if_pos (T1 h.l), show g_X0_within F σ (nI n) 0 10 = _ from y1 F σ, bq_some, if_neg (by decide), gI_T (T1 h.l), Option.bind_some, h.2.2.2.2.1, if_neg (nI_nlt (by omega) (by omega)), pI_T (T1 h.l), Option.bind_some]
        have key : ∀ m i f, i + m = n → m < f → l_X0_check_28 (fun (σ18 : MM) => some ((-1), σ18)) F 1 (nI n) f (nI i) (wI σ 1 9 0) = some (chkS G n m i, wI σ 1 9 0) := by
          intro m
          induction m with
          | zero =>
            intro i f e hf
            obtain ⟨f, rfl⟩ : ∃ g, f = g + 1 := ⟨f - 1, by omega⟩
            rw [l_X0_check_28.eq_2, if_neg (nI_nlt (by omega) (by omega))]
            rfl
          | succ m ih =>
            intro i f e hf
            obtain ⟨f, rfl⟩ : ∃ g, f = g + 1 := ⟨f - 1, by omega⟩
            have i260 : i < 260 := by omega
            have i10 : i < 10 := by omega
            have et : aI (wI σ 1 9 0) 50 21 (nI i) = some (G.tp i) := by
              rw [aI_T (by rw [T50 l1]) (by rw [T50 l1]; exact i260) (by rw [T50 l1]; decide), mI_wn (by decide), h.2.2.2.2.2 i (by omega)]
            rw [l_X0_check_28.eq_2, if_pos (nI_lt (by omega) (by omega)), gP_T (T1 l1), Option.bind_some, P1_7 l1, et, Option.bind_some]
            unfold chkS
            by_cases ht : G.t.testBit i = true
            · have := ow i i10
              rw [told_yes l1 K1.2.2 i10 ht, bq_some, jn_eq, if_neg (by decide), gP_T (T1 l1), Option.bind_some, P1_4 l1, dbP l1 d5, Option.bind_some, e_X4_owes (d5.B l1) C1.1 i10 (by omega), bq_some, if_pos ht, show (255 : Int32) = nI 255 from rfl, jmin_nI (by decide) (by omega)]
              (try dsimp only)
              by_cases c : G.tp i &&& nI 255 = nI (min 255 (owesS G.S.1 i))
              · rw [if_pos c, if_pos c, nI_1]
                exact ih (i + 1) f (by omega) (by omega)
              · rw [if_neg c, if_neg c]
            · rw [told_no l1 K1.2.2 (fun p hp h1 h2 => ht (by rw [(nI_eq (by omega) (by omega)).mp h2]; exact h1)), bq_some, jn_eq, if_pos rfl, if_neg ht]
              (try dsimp only)
              by_cases c : G.tp i &&& 255 = 0
              · rw [if_pos c, if_pos (show G.tp i &&& 255 = nI 0 from c), nI_1]
                exact ih (i + 1) f (by omega) (by omega)
              · rw [if_neg c, if_neg (show ¬ G.tp i &&& 255 = nI 0 from c)]
        exact key n 0 F (by omega) (by omega)
      · have k0 : kj (fun x y => x = 85 ∧ y = 7) τ (wI τ 85 7 0) := kj.w ⟨rfl, rfl⟩
        have r : ∀ x y, (fun x y => x = 85 ∧ y = 7) x y → x = 91 ∨ (x = 85 ∧ y = 7) ∨ rSM x y := fun x y q => Or.inr (Or.inl q)
        have l1 : lay (wI τ 85 7 0) := h.l
        have K1 : MK (wI τ 85 7 0) G.L G.t G.xs G.ys := h.1.j k0 (fun x y q => by unfold rM; omega)
        have M1 : MD (wI τ 85 7 0) 86 G.S := h.2.1.j k0 (fun x y q => by omega)
        refine ⟨wI τ 85 7 0, ?_, upN_rY r k0, h.upN (n := 0) (tp := G.tp) k0 r mI_ws (fun k hk => absurd hk (Nat.not_lt_zero k))⟩
        (try dsimp only)
        rw [if_pos (T85 h.l), show g_X6_in F τ (nI n) 0 10 = _ from y2 F τ, bq_some, if_neg (by decide), gI_T (T85 h.l), Option.bind_some, h.2.2.2.2.1, if_neg (nI_nlt (by omega) (by omega)), pI_T (T85 h.l), Option.bind_some]
        have key : ∀ m i f, i + m = n → m < f → l_X6_check_28 (fun (σ18 : MM) => some ((-1), σ18)) F 85 (nI n) f (nI i) (wI τ 85 7 0) = some (chkS G n m i, wI τ 85 7 0) := by
          intro m
          induction m with
          | zero =>
            intro i f e hf
            obtain ⟨f, rfl⟩ : ∃ g, f = g + 1 := ⟨f - 1, by omega⟩
            rw [l_X6_check_28.eq_2, if_neg (nI_nlt (by omega) (by omega))]
            rfl
          | succ m ih =>
            intro i f e hf
            obtain ⟨f, rfl⟩ : ∃ g, f = g + 1 := ⟨f - 1, by omega⟩
            have i260 : i < 260 := by omega
            have i10 : i < 10 := by omega
            have et : aI (wI τ 85 7 0) 91 21 (nI i) = some (G.tp i) := by
              rw [aI_T (by rw [T91 l1]) (by rw [T91 l1]; exact i260) (by rw [T91 l1]; decide), mI_wn (by decide), h.2.2.2.2.2 i (by omega)]
            rw [l_X6_check_28.eq_2, if_pos (nI_lt (by omega) (by omega)), gP_T (T85 l1), Option.bind_some, P85_6 l1, et, Option.bind_some]
            unfold chkS
            by_cases ht : G.t.testBit i = true
            · have := ow i i10
              rw [person_yes l1 K1.2.2 i10 ht, bq_some, jn_eq, if_neg (by decide), e_X6_owesAll l1 M1.1 i10 (by omega), bq_some, if_pos ht, show (255 : Int32) = nI 255 from rfl, e_minM (by decide) (by omega), bq_some]
              (try dsimp only)
              by_cases c : G.tp i &&& nI 255 = nI (min 255 (owesS G.S.1 i))
              · rw [if_pos c, if_pos c, nI_1]
                exact ih (i + 1) f (by omega) (by omega)
              · rw [if_neg c, if_neg c]
            · rw [person_no l1 K1.2.2 (fun p hp h1 h2 => ht (by rw [(nI_eq (by omega) (by omega)).mp h2]; exact h1)), bq_some, jn_eq, if_pos rfl, if_neg ht]
              (try dsimp only)
              by_cases c : G.tp i &&& 255 = 0
              · rw [if_pos c, if_pos (show G.tp i &&& 255 = nI 0 from c), nI_1]
                exact ih (i + 1) f (by omega) (by omega)
              · rw [if_neg c, if_neg (show ¬ G.tp i &&& 255 = nI 0 from c)]
        exact key n 0 F (by omega) (by omega)
  · refine call_look hG (-2) (fun σ h => ?_) (fun τ h => ?_)
    · (try dsimp only)
      rw [if_pos (T1 h.l), show g_X0_within F σ a 0 10 = _ from n1 F σ, bq_some, if_pos rfl]
    · (try dsimp only)
      rw [if_pos (T85 h.l), show g_X6_in F τ a 0 10 = _ from n2 F τ, bq_some, if_pos rfl]
end TAPE
