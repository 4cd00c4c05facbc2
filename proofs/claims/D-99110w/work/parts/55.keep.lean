/-! WHAT MAY CHANGE, place by place -/
def kj (R : Nat → Nat → Prop) (σ σ' : MM) : Prop := σ'.2 = σ.2 ∧ ∀ x y, ¬ R x y → mI σ' x y = mI σ x y
theorem kj.refl {R : Nat → Nat → Prop} {σ : MM} : kj R σ σ := ⟨rfl, fun _ _ _ => rfl⟩
theorem kj.trans {R : Nat → Nat → Prop} {σ σ1 σ2 : MM} (h : kj R σ σ1) (g : kj R σ1 σ2) : kj R σ σ2 := ⟨g.1.trans h.1, fun x y hx => (g.2 x y hx).trans (h.2 x y hx)⟩
theorem kj.mono {R R' : Nat → Nat → Prop} {σ σ1 : MM} (h : kj R σ σ1) (hS : ∀ x y, R x y → R' x y) : kj R' σ σ1 := ⟨h.1, fun x y hx => h.2 x y (fun q => hx (hS x y q))⟩
theorem kj.w {R : Nat → Nat → Prop} {σ : MM} {a j : Nat} {v : Int32} (h : R a j) : kj R σ (wI σ a j v) := ⟨rfl, fun x y hx => by
  rw [mI_wI, if_neg (fun (q : x = a ∧ y = j) => hx (by rw [q.1, q.2]; exact h))]⟩
theorem kj.T {R : Nat → Nat → Prop} {σ σ1 : MM} (h : kj R σ σ1) : mT σ1 = mT σ := by unfold mT; rw [h.1]
theorem kj.P {R : Nat → Nat → Prop} {σ σ1 : MM} (h : kj R σ σ1) : mP σ1 = mP σ := by unfold mP; rw [h.1]
theorem kj.N {R : Nat → Nat → Prop} {σ σ1 : MM} (h : kj R σ σ1) : mN σ1 = mN σ := by unfold mN; rw [h.1]
theorem kj.ly {R : Nat → Nat → Prop} {σ σ1 : MM} (h : kj R σ σ1) (l : lay σ) : lay σ1 := by
  unfold lay at l ⊢
  rw [h.T, h.P, h.N]
  exact l
theorem kj.row {R : Nat → Nat → Prop} {σ σ1 : MM} {x : Nat} (h : kj R σ σ1) (hx : ∀ y, ¬ R x y) : mI σ1 x = mI σ x := funext (fun y => h.2 x y (hx y))
theorem kp.j {S : Nat → Prop} {R : Nat → Nat → Prop} {σ σ1 : MM} (h : kp S σ σ1) (hS : ∀ x y, S x → R x y) : kj R σ σ1 := ⟨h.1, fun x y hx => congrFun (h.2 x (fun q => hx (hS x y q))) y⟩
theorem kj.p {S : Nat → Prop} {R : Nat → Nat → Prop} {σ σ1 : MM} (h : kj R σ σ1) (hS : ∀ x y, R x y → S x) : kp S σ σ1 := ⟨h.1, fun x hx => h.row (fun y q => hx (hS x y q))⟩
theorem CL.keep {σ σ' : MM} {L : LW} (h : CL σ L) (g : kt σ σ') (hp : mP σ' 1 8 = mP σ 1 8) (hn : mN σ ≤ mN σ') : CL σ' L := by
  obtain ⟨h1, h2, h3, h4, h5, pl, ps, pc, b1, b2, b3, b4, b5, b6, b7, b8, b9, t1, t2, t3, hk⟩ := h
  unfold CL
  rw [hp]
  obtain ⟨g1, g2, g3⟩ := g.2 _ h1 h2
  refine ⟨h1, by omega, by rw [g3]; exact h3, by rw [g1]; exact h4, h5, pl, ps, pc, b1, by omega, b3, by omega, b5, by omega, by rw [g2]; exact b7, by rw [g2]; exact b8, by rw [g2]; exact b9, by rw [(g.2 _ b1 b2).2.2]; exact t1, by rw [(g.2 _ b3 b4).2.2]; exact t2, by rw [(g.2 _ b5 b6).2.2]; exact t3, fun k hk9 => ⟨by rw [(g.2 _ b1 b2).1]; exact (hk k hk9).1, fun F s hF gs => ?_⟩⟩
  have gs2 : kt σ s := ⟨gs.1, fun a ha hn9 => by
    obtain ⟨u1, u2, u3⟩ := g.2 a ha hn9
    obtain ⟨w1, w2, w3⟩ := gs.2 a ha (by omega)
    exact ⟨w1.trans u1, w2.trans u2, w3.trans u3⟩⟩
  have := (hk k hk9).2 F s hF gs2
  rw [(g.2 _ b5 b6).2.1, (g.2 _ b3 b4).2.1]
  exact this
/-- the component's ground: the layout, the law, the people -/
def CK (σ : MM) (L : LW) (t : Nat) (xs ys : Nat → Nat) : Prop := lay σ ∧ CL σ L ∧ CE σ t xs ys
def rC (x y : Nat) : Prop := (x = 1 ∧ y ≠ 2) ∨ (4 ≤ x ∧ x ≤ 50) ∨ (55 ≤ x ∧ x ≤ 122)
theorem CK.j {R : Nat → Nat → Prop} {σ σ' : MM} {L : LW} {t : Nat} {xs ys : Nat → Nat} (h : CK σ L t xs ys) (g : kj R σ σ') (hR : ∀ x y, R x y → rC x y) : CK σ' L t xs ys := by
  refine ⟨g.ly h.1, h.2.1.keep ⟨g.ly h.1, fun a ha hn => ⟨g.row (fun y q => ?_), by rw [g.P], by rw [g.T]⟩⟩ (by rw [g.P]) (by rw [g.N]; exact Nat.le_refl _), h.2.2.keep (g.2 1 2 (fun q => ?_)) (g.row (fun y q => ?_)) (g.row (fun y q => ?_))⟩
  · have := hR _ _ q
    unfold rC at this
    unfold tx at ha
    omega
  · have := hR _ _ q
    unfold rC at this
    omega
  · have := hR _ _ q
    unfold rC at this
    omega
  · have := hR _ _ q
    unfold rC at this
    omega
theorem ML.keep {τ τ' : MM} {L : LW} (h : ML τ L) (g : kcod τ τ') : ML τ' L := by
  obtain ⟨h4, h5, hk⟩ := h
  refine ⟨by rw [g.2.1]; exact h4, h5, fun k hk9 => ?_⟩
  obtain ⟨q1, f, hh, t, r1, r2, r3, q2⟩ := hk k hk9
  have e := fun a (h1 : 98 ≤ a) (h2 : a ≤ 102) => g.2.2 a h1 h2
  refine ⟨by rw [e 99 (by decide) (by decide)]; exact q1, f, hh, t, by rw [e 100 (by decide) (by decide)]; exact r1, by rw [e 101 (by decide) (by decide)]; exact r2, by rw [e 102 (by decide) (by decide)]; exact r3, fun F s hF gs => ?_⟩
  exact q2 F s hF ⟨gs.1, gs.2.1.trans g.2.1, fun a h1 h2 => (gs.2.2 a h1 h2).trans (g.2.2 a h1 h2)⟩
theorem kcod.refl {τ : MM} (l : lay τ) : kcod τ τ := ⟨l, rfl, fun _ _ _ => rfl⟩
/-- the model's ground -/
def MK (τ : MM) (L : LW) (t : Nat) (xs ys : Nat → Nat) : Prop := lay τ ∧ ML τ L ∧ ME τ t xs ys
def rM (x y : Nat) : Prop := x < 85 ∨ (x = 85 ∧ y ≠ 5 ∧ y ≠ 16) ∨ (86 ≤ x ∧ x ≤ 97 ∧ x ≠ 89 ∧ x ≠ 90) ∨ 103 ≤ x
theorem MK.j {R : Nat → Nat → Prop} {σ σ' : MM} {L : LW} {t : Nat} {xs ys : Nat → Nat} (h : MK σ L t xs ys) (g : kj R σ σ') (hR : ∀ x y, R x y → rM x y) : MK σ' L t xs ys := by
  refine ⟨g.ly h.1, h.2.1.keep ⟨g.ly h.1, g.2 85 16 (fun q => ?_), fun a h1 h2 => g.row (fun y q => ?_)⟩, h.2.2.keep (g.2 85 5 (fun q => ?_)) (g.row (fun y q => ?_)) (g.row (fun y q => ?_))⟩
  all_goals
    have := hR _ _ q
    unfold rM at this
    omega
/-! parts of the state put anew -/
def setq (S : DS) (i v : Nat) : DS := (S.1, S.2.1, S.2.2.1, upQ S.2.2.2 i v)
def setd (S : DS) (a b v : Nat) : DS := (fun x y => if x = a ∧ y = b then v else S.1 x y, S.2)
def hadS (S : DS) (p : Nat) : DS := (S.1, fun x => if x = p then S.2.1 x + 1 else S.2.1 x, S.2.2)
theorem CD.j {R : Nat → Nat → Prop} {σ σ' : MM} {W D : Nat} {S : DS} (h : CD W σ D S) (g : kj R σ σ') (hR : ∀ x y, R x y → ¬ (x = D ∧ (y < 11 ∨ 13 < y)) ∧ ¬ (D + 3 ≤ x ∧ x ≤ D + 14)) : CD W σ' D S := by
  obtain ⟨c1, c2, ⟨w, w1, w2, w3, w4⟩, c4, c5, c6, c7, c8, c9, c10⟩ := h
  have hD : ∀ y, y < 11 ∨ 13 < y → mI σ' D y = mI σ D y := fun y hy => g.2 D y (fun q => (hR _ _ q).1 ⟨rfl, hy⟩)
  have hr : ∀ x, D + 3 ≤ x → x ≤ D + 14 → mI σ' x = mI σ x := fun x h1 h2 => g.row (fun y q => (hR _ _ q).2 ⟨h1, h2⟩)
  refine ⟨fun a ha b hb => ?_, fun p hp => ?_, ⟨w, w1, by rw [hD _ (by decide)]; exact w2, w3, fun k hk9 => ?_⟩, by rw [hD _ (by decide)]; exact c4, by rw [hD _ (by decide)]; exact c5, fun q => by rw [hD _ (by decide), hD _ (by decide)]; exact c6 q, by rw [hD _ (by decide)]; exact c7, by rw [hD _ (by decide)]; exact c8, by rw [hD _ (by decide)]; exact c9, by rw [hD _ (by decide)]; exact c10⟩
  · rw [hr _ (by omega) (by omega)]; exact c1 a ha b hb
  · rw [hr _ (by omega) (by omega)]; exact c2 p hp
  · rw [hr _ (by omega) (by omega)]; exact w4 k hk9
theorem CD.mono {σ : MM} {W W' D : Nat} {S : DS} (h : CD W σ D S) (hW : W ≤ W') : CD W' σ D S := by
  obtain ⟨c1, c2, ⟨w, w1, w2⟩, c3⟩ := h
  exact ⟨c1, c2, ⟨w, by omega, w2⟩, c3⟩
theorem MD.j {R : Nat → Nat → Prop} {σ σ' : MM} {A : Nat} {S : DS} (h : MD σ A S) (g : kj R σ σ') (hR : ∀ x y, R x y → x ≠ A) : MD σ' A S := h.keep (g.row (fun y q => hR _ _ q rfl))
section SETS
variable {σ : MM} {W D A : Nat} {S : DS}
theorem CD.q4 {v : Nat} (h : CD W σ D S) : CD W (wI σ D 7 (nI v)) D (setq S 4 v) := by
  obtain ⟨c1, c2, ⟨w, w1, w2, w3, w4⟩, c4, c5, c6, c7, c8, c9, c10⟩ := h
  refine ⟨fun a ha b hb => ?_, fun p hp => ?_, ⟨w, w1, ?_, w3, fun k hk => ?_⟩, ?_, ?_, fun q => ⟨?_, ?_⟩, ?_, ?_, ?_, ?_⟩
  · rw [mI_wn (by omega)]; exact c1 a ha b hb
  · rw [mI_wn (by omega)]; exact c2 p hp
  · rw [mI_wy (by decide)]; exact w2
  · rw [mI_wn (by omega)]; exact w4 k hk
  · rw [mI_wy (by decide)]; exact c4
  · rw [mI_wy (by decide)]; exact c5
  · rw [mI_wy (by decide)]; exact (c6 q).1
  · rw [mI_wy (by decide)]; exact (c6 q).2
  · rw [mI_ws]; rfl
  · rw [mI_wy (by decide)]; exact c8
  · rw [mI_wy (by decide)]; exact c9
  · rw [mI_wy (by decide)]; exact c10
theorem CD.q5 {v : Nat} (h : CD W σ D S) : CD W (wI σ D 8 (nI v)) D (setq S 5 v) := by
  obtain ⟨c1, c2, ⟨w, w1, w2, w3, w4⟩, c4, c5, c6, c7, c8, c9, c10⟩ := h
  refine ⟨fun a ha b hb => ?_, fun p hp => ?_, ⟨w, w1, ?_, w3, fun k hk => ?_⟩, ?_, ?_, fun q => ⟨?_, ?_⟩, ?_, ?_, ?_, ?_⟩
  · rw [mI_wn (by omega)]; exact c1 a ha b hb
  · rw [mI_wn (by omega)]; exact c2 p hp
  · rw [mI_wy (by decide)]; exact w2
  · rw [mI_wn (by omega)]; exact w4 k hk
  · rw [mI_wy (by decide)]; exact c4
  · rw [mI_wy (by decide)]; exact c5
  · rw [mI_wy (by decide)]; exact (c6 q).1
  · rw [mI_wy (by decide)]; exact (c6 q).2
  · rw [mI_wy (by decide)]; exact c7
  · rw [mI_ws]; rfl
  · rw [mI_wy (by decide)]; exact c9
  · rw [mI_wy (by decide)]; exact c10
theorem CD.q6 {v : Nat} (h : CD W σ D S) : CD W (wI σ D 14 (nI v)) D (setq S 6 v) := by
  obtain ⟨c1, c2, ⟨w, w1, w2, w3, w4⟩, c4, c5, c6, c7, c8, c9, c10⟩ := h
  refine ⟨fun a ha b hb => ?_, fun p hp => ?_, ⟨w, w1, ?_, w3, fun k hk => ?_⟩, ?_, ?_, fun q => ⟨?_, ?_⟩, ?_, ?_, ?_, ?_⟩
  · rw [mI_wn (by omega)]; exact c1 a ha b hb
  · rw [mI_wn (by omega)]; exact c2 p hp
  · rw [mI_wy (by decide)]; exact w2
  · rw [mI_wn (by omega)]; exact w4 k hk
  · rw [mI_wy (by decide)]; exact c4
  · rw [mI_wy (by decide)]; exact c5
  · rw [mI_wy (by decide)]; exact (c6 q).1
  · rw [mI_wy (by decide)]; exact (c6 q).2
  · rw [mI_wy (by decide)]; exact c7
  · rw [mI_wy (by decide)]; exact c8
  · rw [mI_ws]; rfl
  · rw [mI_wy (by decide)]; exact c10
theorem CD.q7 {v : Nat} (h : CD W σ D S) : CD W (wI σ D 9 (nI v)) D (setq S 7 v) := by
  obtain ⟨c1, c2, ⟨w, w1, w2, w3, w4⟩, c4, c5, c6, c7, c8, c9, c10⟩ := h
  refine ⟨fun a ha b hb => ?_, fun p hp => ?_, ⟨w, w1, ?_, w3, fun k hk => ?_⟩, ?_, ?_, fun q => ⟨?_, ?_⟩, ?_, ?_, ?_, ?_⟩
  · rw [mI_wn (by omega)]; exact c1 a ha b hb
  · rw [mI_wn (by omega)]; exact c2 p hp
  · rw [mI_wy (by decide)]; exact w2
  · rw [mI_wn (by omega)]; exact w4 k hk
  · rw [mI_wy (by decide)]; exact c4
  · rw [mI_wy (by decide)]; exact c5
  · rw [mI_wy (by decide)]; exact (c6 q).1
  · rw [mI_wy (by decide)]; exact (c6 q).2
  · rw [mI_wy (by decide)]; exact c7
  · rw [mI_wy (by decide)]; exact c8
  · rw [mI_wy (by decide)]; exact c9
  · rw [mI_ws]; rfl
/-- left -/
theorem CD.q3 {v : Nat} (h : CD W σ D S) : CD W (wI σ D 6 (nI v)) D (setq S 3 v) := by
  obtain ⟨c1, c2, ⟨w, w1, w2, w3, w4⟩, c4, c5, c6, c7, c8, c9, c10⟩ := h
  refine ⟨fun a ha b hb => ?_, fun p hp => ?_, ⟨w, w1, ?_, w3, fun k hk => ?_⟩, ?_, ?_, fun q => ⟨?_, ?_⟩, ?_, ?_, ?_, ?_⟩
  · rw [mI_wn (by omega)]; exact c1 a ha b hb
  · rw [mI_wn (by omega)]; exact c2 p hp
  · rw [mI_wy (by decide)]; exact w2
  · rw [mI_wn (by omega)]; exact w4 k hk
  · rw [mI_wy (by decide)]; exact c4
  · rw [mI_wy (by decide)]; exact c5
  · rw [mI_wy (by decide)]; exact (c6 q).1
  · rw [mI_ws]; rfl
  · rw [mI_wy (by decide)]; exact c7
  · rw [mI_wy (by decide)]; exact c8
  · rw [mI_wy (by decide)]; exact c9
  · rw [mI_wy (by decide)]; exact c10
theorem CD.sd {a b v : Nat} (ha : a < 10) (hb : b < 10) (h : CD W σ D S) : CD W (wI σ (D + 3 + a) b (nI v)) D (setd S a b v) := by
  obtain ⟨c1, c2, ⟨w, w1, w2, w3, w4⟩, c4, c5, c6, c7, c8, c9, c10⟩ := h
  have e : ∀ y, mI (wI σ (D + 3 + a) b (nI v)) D y = mI σ D y := fun y => by rw [mI_wn (by omega)]
  refine ⟨fun x hx y hy => ?_, fun p hp => ?_, ⟨w, w1, ?_, w3, fun k hk => ?_⟩, ?_, ?_, fun q => ⟨?_, ?_⟩, ?_, ?_, ?_, ?_⟩
  · show _ = nI (if x = a ∧ y = b then v else S.1 x y)
    rw [mI_wI]
    by_cases c : x = a ∧ y = b
    · rw [if_pos ⟨by omega, c.2⟩, if_pos c]
    · rw [if_neg (fun q => c ⟨by omega, q.2⟩), if_neg c]; exact c1 x hx y hy
  · rw [mI_wn (by omega)]; exact c2 p hp
  · rw [e]; exact w2
  · rw [mI_wn (by omega)]; exact w4 k hk
  · rw [e]; exact c4
  · rw [e]; exact c5
  · rw [e]; exact (c6 q).1
  · rw [e]; exact (c6 q).2
  · rw [e]; exact c7
  · rw [e]; exact c8
  · rw [e]; exact c9
  · rw [e]; exact c10
theorem CD.hd {p : Nat} (h : CD W σ D S) : CD W (wI σ (D + 13) p (S.2.1 p + 1)) D (hadS S p) := by
  obtain ⟨c1, c2, ⟨w, w1, w2, w3, w4⟩, c4, c5, c6, c7, c8, c9, c10⟩ := h
  have e : ∀ y, mI (wI σ (D + 13) p (S.2.1 p + 1)) D y = mI σ D y := fun y => by rw [mI_wn (by omega)]
  refine ⟨fun x hx y hy => ?_, fun x hx => ?_, ⟨w, w1, ?_, w3, fun k hk => ?_⟩, ?_, ?_, fun q => ⟨?_, ?_⟩, ?_, ?_, ?_, ?_⟩
  · rw [mI_wn (by omega)]; exact c1 x hx y hy
  · show _ = (if x = p then S.2.1 x + 1 else S.2.1 x)
    rw [mI_wI]
    by_cases c : x = p
    · subst c; rw [if_pos ⟨rfl, rfl⟩, if_pos rfl]
    · rw [if_neg (fun q => c q.2), if_neg c]; exact c2 x hx
  · rw [e]; exact w2
  · rw [mI_wn (by omega)]; exact w4 k hk
  · rw [e]; exact c4
  · rw [e]; exact c5
  · rw [e]; exact (c6 q).1
  · rw [e]; exact (c6 q).2
  · rw [e]; exact c7
  · rw [e]; exact c8
  · rw [e]; exact c9
  · rw [e]; exact c10
/-! the same in the model's row -/
theorem MD.q {v j i : Nat} (hlen : S.2.2.1.length ≤ 40) (hj : (j = 155 ∧ i = 4) ∨ (j = 156 ∧ i = 5) ∨ (j = 157 ∧ i = 6) ∨ (j = 158 ∧ i = 7)) (h : MD σ A S) : MD (wI σ A j (nI v)) A (setq S i v) := by
  obtain ⟨m1, m2, ⟨m3, m4⟩, m5, m6, m7, m8, m9, m10, m11, m12⟩ := h
  have e : ∀ y, y < 155 → mI (wI σ A j (nI v)) A y = mI σ A y := fun y hy => mI_wy (by omega)
  refine ⟨fun a ha b hb => ?_, fun p hp => ?_, ⟨?_, fun k hk => ?_⟩, ?_, ?_, fun q => ?_, ?_, ?_, ?_, ?_, ?_⟩
  · rw [e _ (by omega)]; exact m1 a ha b hb
  · rw [e _ (by omega)]; exact m2 p hp
  · rw [e _ (by omega)]; exact m3
  · have hk9 : k < S.2.2.1.length := hk
    rw [e _ (by omega)]; exact m4 k hk
  · rw [e _ (by omega)]; rcases hj with ⟨rfl, rfl⟩ | ⟨rfl, rfl⟩ | ⟨rfl, rfl⟩ | ⟨rfl, rfl⟩ <;> exact m5
  · rw [e _ (by omega)]; rcases hj with ⟨rfl, rfl⟩ | ⟨rfl, rfl⟩ | ⟨rfl, rfl⟩ | ⟨rfl, rfl⟩ <;> exact m6
  · rw [e _ (by omega)]; rcases hj with ⟨rfl, rfl⟩ | ⟨rfl, rfl⟩ | ⟨rfl, rfl⟩ | ⟨rfl, rfl⟩ <;> exact m7 q
  · rw [e _ (by omega)]; rcases hj with ⟨rfl, rfl⟩ | ⟨rfl, rfl⟩ | ⟨rfl, rfl⟩ | ⟨rfl, rfl⟩ <;> exact m8
  · rcases hj with ⟨rfl, rfl⟩ | ⟨rfl, rfl⟩ | ⟨rfl, rfl⟩ | ⟨rfl, rfl⟩ <;> first | (rw [mI_ws]; rfl) | (rw [mI_wy (by decide)]; exact m9)
  · rcases hj with ⟨rfl, rfl⟩ | ⟨rfl, rfl⟩ | ⟨rfl, rfl⟩ | ⟨rfl, rfl⟩ <;> first | (rw [mI_ws]; rfl) | (rw [mI_wy (by decide)]; exact m10)
  · rcases hj with ⟨rfl, rfl⟩ | ⟨rfl, rfl⟩ | ⟨rfl, rfl⟩ | ⟨rfl, rfl⟩ <;> first | (rw [mI_ws]; rfl) | (rw [mI_wy (by decide)]; exact m11)
  · rcases hj with ⟨rfl, rfl⟩ | ⟨rfl, rfl⟩ | ⟨rfl, rfl⟩ | ⟨rfl, rfl⟩ <;> first | (rw [mI_ws]; rfl) | (rw [mI_wy (by decide)]; exact m12)
/-- left, while one is under way -/
theorem MD.q3 {v : Nat} (hlen : S.2.2.1.length ≤ 40) (hg : S.2.2.2 1 < 10) (h : MD σ A S) : MD (wI σ A 154 (nI v)) A (setq S 3 v) := by
  obtain ⟨m1, m2, ⟨m3, m4⟩, m5, m6, m7, m8, m9, m10, m11, m12⟩ := h
  have e : ∀ y, y ≠ 154 → mI (wI σ A 154 (nI v)) A y = mI σ A y := fun y hy => mI_wy hy
  refine ⟨fun a ha b hb => ?_, fun p hp => ?_, ⟨?_, fun k hk => ?_⟩, ?_, ?_, fun q => ?_, ?_, ?_, ?_, ?_, ?_⟩
  · rw [e _ (by omega)]; exact m1 a ha b hb
  · rw [e _ (by omega)]; exact m2 p hp
  · rw [e _ (by omega)]; exact m3
  · have hk9 : k < S.2.2.1.length := hk
    rw [e _ (by omega)]; exact m4 k hk
  · rw [e _ (by omega)]; exact m5
  · rw [e _ (by omega)]; exact m6
  · rw [e _ (by omega)]; exact m7 q
  · rw [mI_ws]
    show nI v = nI (if S.2.2.2 1 < 10 then v else 0)
    rw [if_pos hg]
  · rw [e _ (by omega)]; exact m9
  · rw [e _ (by omega)]; exact m10
  · rw [e _ (by omega)]; exact m11
  · rw [e _ (by omega)]; exact m12
theorem MD.sd {a b v : Nat} (ha : a < 10) (hb : b < 10) (h : MD σ A S) : MD (wI σ A (10 * a + b) (nI v)) A (setd S a b v) := by
  obtain ⟨m1, m2, ⟨m3, m4⟩, m5, m6, m7, m8, m9, m10, m11, m12⟩ := h
  have e : ∀ y, 100 ≤ y → mI (wI σ A (10 * a + b) (nI v)) A y = mI σ A y := fun y hy => mI_wy (by omega)
  refine ⟨fun x hx y hy => ?_, fun p hp => ?_, ⟨?_, fun k hk => ?_⟩, ?_, ?_, fun q => ?_, ?_, ?_, ?_, ?_, ?_⟩
  · show _ = nI (if x = a ∧ y = b then v else S.1 x y)
    rw [mI_wI]
    by_cases c : x = a ∧ y = b
    · rw [if_pos ⟨rfl, by rw [c.1, c.2]⟩, if_pos c]
    · rw [if_neg (fun q => c (by omega)), if_neg c]; exact m1 x hx y hy
  · rw [e _ (by omega)]; exact m2 p hp
  · rw [e _ (by omega)]; exact m3
  · rw [e _ (by omega)]; exact m4 k hk
  · rw [e _ (by omega)]; exact m5
  · rw [e _ (by omega)]; exact m6
  · rw [e _ (by omega)]; exact m7 q
  · rw [e _ (by omega)]; exact m8
  · rw [e _ (by omega)]; exact m9
  · rw [e _ (by omega)]; exact m10
  · rw [e _ (by omega)]; exact m11
  · rw [e _ (by omega)]; exact m12
theorem MD.hd {p : Nat} (hp : p < 10) (h : MD σ A S) : MD (wI σ A (100 + p) (S.2.1 p + 1)) A (hadS S p) := by
  obtain ⟨m1, m2, ⟨m3, m4⟩, m5, m6, m7, m8, m9, m10, m11, m12⟩ := h
  have e : ∀ y, y < 100 ∨ 110 ≤ y → mI (wI σ A (100 + p) (S.2.1 p + 1)) A y = mI σ A y := fun y hy => mI_wy (by omega)
  refine ⟨fun x hx y hy => ?_, fun x hx => ?_, ⟨?_, fun k hk => ?_⟩, ?_, ?_, fun q => ?_, ?_, ?_, ?_, ?_, ?_⟩
  · rw [e _ (by omega)]; exact m1 x hx y hy
  · show _ = (if x = p then S.2.1 x + 1 else S.2.1 x)
    rw [mI_wI]
    by_cases c : x = p
    · subst c; rw [if_pos ⟨rfl, rfl⟩, if_pos rfl]
    · rw [if_neg (fun q => c (by omega)), if_neg c]; exact m2 x hx
  · rw [e _ (by omega)]; exact m3
  · rw [e _ (by omega)]; exact m4 k hk
  · rw [e _ (by omega)]; exact m5
  · rw [e _ (by omega)]; exact m6
  · rw [e _ (by omega)]; exact m7 q
  · rw [e _ (by omega)]; exact m8
  · rw [e _ (by omega)]; exact m9
  · rw [e _ (by omega)]; exact m10
  · rw [e _ (by omega)]; exact m11
  · rw [e _ (by omega)]; exact m12
end SETS
/-! a thing held within 0 .. m -/
def heldN (v : Int32) (m : Nat) : Nat := (heldS v (nI m)).toNatClampNeg
theorem heldN_eq {v : Int32} {m : Nat} (hm : m < 2147483648) : heldS v (nI m) = nI (heldN v m) ∧ heldN v m ≤ m := by
  have key : ∃ j, j ≤ m ∧ heldS v (nI m) = nI j := by
    rw [held_eq (nI_pos hm)]
    by_cases c1 : v < 0
    · rw [if_pos c1]; exact ⟨0, Nat.zero_le _, rfl⟩
    · rw [if_neg c1]
      by_cases c2 : nI m < v
      · rw [if_pos c2]; exact ⟨m, Nat.le_refl _, rfl⟩
      · rw [if_neg c2]
        obtain ⟨j, hj, rfl⟩ := nI_of c1
        exact ⟨j, Nat.le_of_not_lt (fun q => c2 (nI_lt q hj)), rfl⟩
  obtain ⟨j, hj, e⟩ := key
  unfold heldN
  rw [e, nI_clamp (by omega)]
  exact ⟨rfl, hj⟩
