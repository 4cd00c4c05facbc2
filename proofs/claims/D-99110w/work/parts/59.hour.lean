seal gout gin lotS nxtS
/-! AN HOUR -/
/-- the state with what is counted: paid, rained, grown -/
abbrev HS : Type := DS × Int32 × Int32 × Int32
section HOURS
variable (L : LW) (xs ys : Nat → Nat)
def rainN (S : DS) : Nat := if nI (lotS (S.2.2.2 7) % 10) < rainS L (S.2.2.2 5) then 1 else 0
def dayS (x : HS) : HS :=
  ((gout L xs ys 10 (setq (setq x.1 7 (lotS (x.1.2.2.2 7))) 6 (rainN L x.1), x.2.2.2)).1, x.2.1, x.2.2.1 + nI (rainN L x.1), (gout L xs ys 10 (setq (setq x.1 7 (lotS (x.1.2.2.2 7))) 6 (rainN L x.1), x.2.2.2)).2)
def tickS (S : DS) : DS := if S.2.2.2 4 + 1 = 24 then setq (setq (setq S 4 (S.2.2.2 4 + 1)) 4 0) 5 (S.2.2.2 5 + 1) else setq S 4 (S.2.2.2 4 + 1)
/-- what is done in it: who gets the coin, the state, how many paid -/
def doneS (S : DS) (p : Int32) : Nat × DS × Int32 :=
  if S.2.2.2 1 < 10 then (if S.2.2.2 3 - 1 = 0 then (S.2.2.2 1, payS (setq S 3 0) (S.2.2.2 2) (S.2.2.2 1), p + 1) else (10, setq S 3 (S.2.2.2 3 - 1), p))
  else if S.2.2.2 0 < 10 then (10, stayS L xs ys S, p) else (10, S, p)
def mornS (x : HS) : HS := if x.1.2.2.2 4 = 0 then dayS L xs ys x else x
def hourS (x : HS) : Nat × HS := ((doneS L xs ys (mornS L xs ys x).1 (mornS L xs ys x).2.1).1, tickS (doneS L xs ys (mornS L xs ys x).1 (mornS L xs ys x).2.1).2.1, (doneS L xs ys (mornS L xs ys x).1 (mornS L xs ys x).2.1).2.2, (mornS L xs ys x).2.2)
end HOURS
def CH (W : Nat) (σ : MM) (D : Nat) (x : HS) : Prop := CD W σ D x.1 ∧ mI σ D 11 = x.2.1 ∧ mI σ D 12 = x.2.2.1 ∧ mI σ D 13 = x.2.2.2
def MH (τ : MM) (x : HS) : Prop := MD τ 86 x.1 ∧ mI τ 85 32 = x.2.1 ∧ mI τ 85 33 = x.2.2.1 ∧ mI τ 85 34 = x.2.2.2
def rH (D x _y : Nat) : Prop := x = 4 ∨ x = D ∨ (D + 3 ≤ x ∧ x ≤ D + 14)
def rHM (x y : Nat) : Prop := rN x y ∨ (x = 85 ∧ 32 ≤ y ∧ y ≤ 35)
theorem rH_rC {D : Nat} (hD : isD D) (x y : Nat) (h : rH D x y) : rC x y := by
  unfold rH at h
  unfold rC
  unfold isD at hD
  omega
theorem rHM_rM (x y : Nat) (h : rHM x y) : rM x y := by
  unfold rHM rN at h
  unfold rM
  omega
theorem rD1_rH {D j x y : Nat} (h : rD1 D j x y) : rH D x y := by
  unfold rD1 rD at h
  unfold rH
  omega
theorem rD_rH {D x y : Nat} (h : rD D x y) : rH D x y := by
  unfold rD at h
  unfold rH
  omega
theorem rN1_rHM {j x y : Nat} (hj : 32 ≤ j ∧ j ≤ 35) (h : rN1 j x y) : rHM x y := by
  rcases h with h | h
  · exact Or.inl h
  · exact Or.inr ⟨h.1, by omega, by omega⟩
section WELL
variable {t Y : Nat} {xs ys : Nat → Nat} {L : LW}
theorem rainN_1 {S : DS} : rainN L S ≤ 1 := by
  unfold rainN
  by_cases c : nI (lotS (S.2.2.2 7) % 10) < rainS L (S.2.2.2 5)
  · rw [if_pos c]; decide
  · rw [if_neg c]; decide
theorem dayS_W {x : HS} (h : DW t Y x.1) : DW t Y (dayS L xs ys x).1 := by
  obtain ⟨d1, d2, d3, d4, d5, d6, d7, d8, d9, d10, d11⟩ := h
  exact gout_W L xs ys (s := (setq (setq x.1 7 (lotS (x.1.2.2.2 7))) 6 (rainN L x.1), x.2.2.2)) ⟨d1, d2, d3, d4, d5, d6, d7, d8, rainN_1, lotS_lt _, d11⟩ 10
theorem mornS_W {x : HS} (h : DW t Y x.1) : DW t Y (mornS L xs ys x).1 := by
  unfold mornS
  by_cases c : x.1.2.2.2 4 = 0
  · rw [if_pos c]; exact dayS_W h
  · rw [if_neg c]; exact h
theorem mornS_q {x : HS} {j : Nat} (h6 : j ≠ 6) (h7 : j ≠ 7) : (mornS L xs ys x).1.2.2.2 j = x.1.2.2.2 j := by
  unfold mornS
  by_cases c : x.1.2.2.2 4 = 0
  · rw [if_pos c]
    unfold dayS
    (try dsimp only)
    rw [gout_q]
    show upQ (upQ x.1.2.2.2 7 _) 6 _ j = _
    rw [upQ_n h6, upQ_n h7]
  · rw [if_neg c]
theorem doneS_W {S : DS} {p : Int32} (h : DW t Y S) (hx : ∀ p, p < 10 → xs p < 10 ∧ ys p < 10) (hg : S.2.2.2 1 < 10 → t.testBit (S.2.2.2 1) = true) : DW t Y (doneS L xs ys S p).2.1 := by
  unfold doneS
  by_cases c : S.2.2.2 1 < 10
  · rw [if_pos c]
    obtain ⟨d1, d2, d3, d4, d5, d6, d7, d8, d9, d10, d11⟩ := h
    obtain ⟨u1, u2, u3⟩ := d5 c
    by_cases c2 : S.2.2.2 3 - 1 = 0
    · rw [if_pos c2]
      have := DW.pay (a := S.2.2.2 2) ⟨d1, d2, d3, d4, d5, d6, d7, d8, d9, d10, d11⟩ c (hg c) (d1 _ u1 _ c).1
      obtain ⟨e1, e2, e3, e4, e5, e6, e7, e8, e9, e10, e11⟩ := this
      exact ⟨e1, e2, e3, e4, fun q => absurd q (show ¬ 10 < 10 by decide), e6, e7, e8, e9, e10, e11⟩
    · rw [if_neg c2]
      refine ⟨d1, d2, d3, d4, fun _ => ⟨u1, ?_, ?_⟩, d6, d7, d8, d9, d10, d11⟩
      · show 1 ≤ S.2.2.2 3 - 1; omega
      · show S.2.2.2 3 - 1 ≤ 18; omega
  · rw [if_neg c]
    by_cases c2 : S.2.2.2 0 < 10
    · rw [if_pos c2]; exact stayS_W h hx c2
    · rw [if_neg c2]; exact h
theorem tickS_W {S : DS} (h : DW t Y S) : DW t (Y + 1) (tickS S) := by
  obtain ⟨d1, d2, d3, d4, d5, d6, d7, d8, d9, d10, d11⟩ := h
  unfold tickS
  by_cases c : S.2.2.2 4 + 1 = 24
  · rw [if_pos c]
    refine ⟨d1, d2, d3, d4, d5, d6, ?_, ?_, d9, d10, d11⟩
    · show 0 < 24; decide
    · show S.2.2.2 5 + 1 ≤ Y + 1; omega
  · rw [if_neg c]
    refine ⟨d1, d2, d3, d4, d5, d6, ?_, Nat.le_succ_of_le d8, d9, d10, d11⟩
    show S.2.2.2 4 + 1 < 24; omega
end WELL
section HOUR2
variable {σ : MM} {F D W t Y : Nat} {x : HS} {xs ys : Nat → Nat} {L : LW}
theorem CH.j {R : Nat → Nat → Prop} {σ' : MM} (h : CH W σ D x) (g : kj R σ σ') (hR : ∀ x y, R x y → ¬ (x = D) ∧ ¬ (D + 3 ≤ x ∧ x ≤ D + 14)) : CH W σ' D x := by
  obtain ⟨h1, h2, h3, h4⟩ := h
  have e : ∀ y, mI σ' D y = mI σ D y := fun y => g.2 D y (fun q => (hR _ _ q).1 rfl)
  exact ⟨h1.j g (fun x y q => ⟨fun u => (hR _ _ q).1 u.1, (hR _ _ q).2⟩), by rw [e]; exact h2, by rw [e]; exact h3, by rw [e]; exact h4⟩
theorem e_X3_dayBegins (hK : CK σ L t xs ys) (hD : isD D) (hC : CH W σ D x) (hW : W < 1000000) (hw : DW t Y x.1) (h0 : x.1.2.2.2 4 = 0) (hY : Y < 2147483648) (hF : 100000 ≤ F) : ∃ σ', g_X3_dayBegins F σ D = some σ' ∧ kj (rH D) σ σ' ∧ CH W σ' D (dayS L xs ys x) := by
  obtain ⟨C0, p11, p12, p13⟩ := hC
  have l := hK.1
  obtain ⟨d1, d2, d3, d4, d5, d6, d7, d8, d9, d10, d11⟩ := hw
  have h9 : mI σ D 9 = nI (x.1.2.2.2 7) := C0.2.2.2.2.2.2.2.2.2
  have C1 := C0.q7 (v := lotS (x.1.2.2.2 7))
  have w_ : ∀ {s : MM} {j : Nat} {v : Int32}, kj (rH D) s (wI s D j v) := kj.w (Or.inr (Or.inl rfl))
  have hD4 : D ≠ 4 := hD.ne4 (Or.inl rfl)
  unfold g_X3_dayBegins dayS
  rw [if_pos (hD.T l), e_X3_draw l hD d10 h9, bq_some]
  have k1 : kj (rH D) σ (wI σ D 9 (nI (lotS (x.1.2.2.2 7)))) := w_
  have K1 := hK.j k1 (rH_rC hD)
  have p11 : mI (wI σ D 9 (nI (lotS (x.1.2.2.2 7)))) D 11 = x.2.1 := by rw [mI_wy (by decide), p11]
  have p12 : mI (wI σ D 9 (nI (lotS (x.1.2.2.2 7)))) D 12 = x.2.2.1 := by rw [mI_wy (by decide), p12]
  have p13 : mI (wI σ D 9 (nI (lotS (x.1.2.2.2 7)))) D 13 = x.2.2.2 := by rw [mI_wy (by decide), p13]
  generalize wI σ D 9 (nI (lotS (x.1.2.2.2 7))) = s1 at C1 k1 K1 p11 p12 p13 ⊢
  have l1 := K1.1
  have e7 : mI s1 D 7 = nI 0 := by rw [C1.2.2.2.2.2.2.1]; show nI (x.1.2.2.2 4) = nI 0; rw [h0]
  have e8 : mI s1 D 8 = nI (x.1.2.2.2 5) := C1.2.2.2.2.2.2.2.1
  obtain ⟨s2, f1, k2, f2⟩ := e_X2_at0 (F := F) (x := 0) (y := x.1.2.2.2 5) l1
  have k2j := k2.j (R := rH D) (fun x y q => Or.inl q)
  have K2 := K1.j k2j (rH_rC hD)
  obtain ⟨s3, k3, f3⟩ := e_X2_tells (F := F) (c := 114) (most := 10) (by decide) K2.2.1 hF (kt.refl K2.1) rfl
  have k3j := k3.1.j (R := rH D) (fun x y q => Or.inl q)
  have K3 := K2.j k3j (rH_rC hD)
  have l3 := K3.1
  have hr : ∀ a, (a = D ∨ (D + 3 ≤ a ∧ a ≤ D + 14)) → mI s3 a = mI s1 a := fun a q => by rw [k3.1.2 a (hD.ne4 q), k2.2 a (hD.ne4 q)]
  have C3 := C1.keep hr
  have p11 : mI s3 D 11 = x.2.1 := by rw [hr D (Or.inl rfl), p11]
  have p12 : mI s3 D 12 = x.2.2.1 := by rw [hr D (Or.inl rfl), p12]
  have p13 : mI s3 D 13 = x.2.2.2 := by rw [hr D (Or.inl rfl), p13]
  rw [gP_T (hD.T l1), Option.bind_some, hD.P15 l1, gP_T (T1 l1), Option.bind_some, P1_3 l1, gI_T (hD.T l1), Option.bind_some, e7, gI_T (hD.T l1), Option.bind_some, e8, f1, bq_some, f3, bq_some, f2, jn_eq]
  (try dsimp only)
  -- what follows, for the rain r
  have fin : ∀ r : Nat, r ≤ 1 → ∃ σ', ((pZ s3 D 2 16 14 (nI r)).bind fun σ14 => (gI σ14 D 2 16 12).bind fun v15 => (gI σ14 D 2 16 14).bind fun v16 => jn (fun (w18 : Int32) (σ17 : MM) => (pI σ17 D 2 16 12 ((v15 + w18))).bind fun σ20 => l_X3_dayBegins_64 (fun (σ44 : MM) => some σ44) F D F 0 σ20) (fun k19 => if v16 = 0 then (k19 0 σ14) else (k19 1 σ14))) = some σ' ∧ kj (rH D) σ σ' ∧ CD W σ' D (gout L xs ys 10 (setq (setq x.1 7 (lotS (x.1.2.2.2 7))) 6 r, x.2.2.2)).1 ∧ mI σ' D 11 = x.2.1 ∧ mI σ' D 12 = x.2.2.1 + nI r ∧ mI σ' D 13 = (gout L xs ys 10 (setq (setq x.1 7 (lotS (x.1.2.2.2 7))) 6 r, x.2.2.2)).2 := by
    intro r hr1
    have C4 := C3.q6 (v := r)
    have l4 : lay (wI s3 D 14 (nI r)) := l3
    have e12 : mI (wI s3 D 14 (nI r)) D 12 = x.2.2.1 := by rw [mI_wy (by decide), p12]
    have hz : nI r = 0 ∨ nI r = 1 := by
      rcases (show r = 0 ∨ r = 1 by omega) with h | h <;> subst h
      · exact Or.inl rfl
      · exact Or.inr rfl
    have es : (if nI r = 0 then (pI (wI s3 D 14 (nI r)) D 2 16 12 (x.2.2.1 + 0)).bind fun σ20 => l_X3_dayBegins_64 (fun (σ44 : MM) => some σ44) F D F 0 σ20 else (pI (wI s3 D 14 (nI r)) D 2 16 12 (x.2.2.1 + 1)).bind fun σ20 => l_X3_dayBegins_64 (fun (σ44 : MM) => some σ44) F D F 0 σ20) = l_X3_dayBegins_64 (fun (σ44 : MM) => some σ44) F D F 0 (wI (wI s3 D 14 (nI r)) D 12 (x.2.2.1 + nI r)) := by
      rcases (show r = 0 ∨ r = 1 by omega) with h | h <;> subst h
      · rw [if_pos (show nI 0 = 0 from rfl), pI_T (hD.T l4), Option.bind_some]; rfl
      · rw [if_neg (by decide), pI_T (hD.T l4), Option.bind_some]; rfl
    rw [pZ_T (hD.T l3) hz, Option.bind_some, gI_T (hD.T l4), Option.bind_some, e12, gI_T (hD.T l4), Option.bind_some, mI_ws, jn_eq]
    (try dsimp only)
    rw [es]
    have k5 : kj (rH D) s3 (wI (wI s3 D 14 (nI r)) D 12 (x.2.2.1 + nI r)) := w_.trans w_
    have K5 := K3.j k5 (rH_rC hD)
    have C5 := C4.j (kj.w (R := fun x y => x = D ∧ y = 12) (j := 12) (v := x.2.2.1 + nI r) ⟨rfl, rfl⟩) (fun x y q => by have q : x = D ∧ y = 12 := q; omega)
    have g13 : mI (wI (wI s3 D 14 (nI r)) D 12 (x.2.2.1 + nI r)) D 13 = x.2.2.2 := by rw [mI_wy (by decide), mI_wy (by decide), p13]
    obtain ⟨s6, j1, j2, j3, j4⟩ := grow_C (F := F) (s := (setq (setq x.1 7 (lotS (x.1.2.2.2 7))) 6 r, x.2.2.2)) K5 hD C5 g13 hW (t := t) (Y := Y) ⟨d1, d2, d3, d4, d5, d6, d7, d8, hr1, lotS_lt _, d11⟩ hF (fun (σ44 : MM) => some σ44)
    refine ⟨s6, j4, (((k1.trans k2j).trans k3j).trans k5).trans (j1.mono (fun x y q => rD1_rH q)), j2, ?_, ?_, j3⟩
    · rw [j1.2 D 11 (by unfold rD1 rD; omega), mI_wy (by decide), mI_wy (by decide), p11]
    · rw [j1.2 D 12 (by unfold rD1 rD; omega), mI_ws]
  have hrn : (if nI (lotS (x.1.2.2.2 7) % 10) < heldS (tellsS L 114 (fx0 0 (x.1.2.2.2 5))) 10 then 1 else 0) = rainN L x.1 := rfl
  by_cases c : nI (lotS (x.1.2.2.2 7) % 10) < heldS (tellsS L 114 (fx0 0 (x.1.2.2.2 5))) 10
  · rw [if_pos c] at hrn ⊢
    rw [← hrn]
    obtain ⟨s', u1, u2, u3, u4, u5, u6⟩ := fin 1 (by decide)
    exact ⟨s', u1, u2, u3, u4, u5, u6⟩
  · rw [if_neg c] at hrn ⊢
    rw [← hrn]
    obtain ⟨s', u1, u2, u3, u4, u5, u6⟩ := fin 0 (by decide)
    exact ⟨s', u1, u2, u3, u4, u5, u6⟩
theorem e_X6_dayBegins (hK : MK σ L t xs ys) (hM : MH σ x) (hw : DW t Y x.1) (hF : 100000 ≤ F) : ∃ σ', g_X6_dayBegins F σ 85 = some σ' ∧ kj rHM σ σ' ∧ mI σ' 85 35 = mI σ 85 35 ∧ MH σ' (dayS L xs ys x) := by
  obtain ⟨M0, p11, p12, p13⟩ := hM
  have l := hK.1
  obtain ⟨d1, d2, d3, d4, d5, d6, d7, d8, d9, d10, d11⟩ := hw
  have h9 : mI σ 86 158 = nI (x.1.2.2.2 7) := M0.2.2.2.2.2.2.2.2.2.2
  have M1 := M0.q d2 (j := 158) (i := 7) (v := lotS (x.1.2.2.2 7)) (by decide)
  have w_ : ∀ {s : MM} {j : Nat} {v : Int32}, kj rHM s (wI s 86 j v) := kj.w (Or.inl (Or.inl rfl))
  have hlt := lotS_lt (x.1.2.2.2 7)
  unfold g_X6_dayBegins dayS
  rw [if_pos (T85 l), gN l, Option.bind_some, Option.bind_some, show (158 : Int32) = nI 158 from rfl, aN l (by decide), Option.bind_some, h9, lot_rm d10, Option.bind_some, sN l (by decide), Option.bind_some]
  have k1 : kj rHM σ (wI σ 86 158 (nI (lotS (x.1.2.2.2 7)))) := w_
  have K1 := hK.j k1 rHM_rM
  have p11 : mI (wI σ 86 158 (nI (lotS (x.1.2.2.2 7)))) 85 32 = x.2.1 := by rw [mI_wn (by decide), p11]
  have p12 : mI (wI σ 86 158 (nI (lotS (x.1.2.2.2 7)))) 85 33 = x.2.2.1 := by rw [mI_wn (by decide), p12]
  have p13 : mI (wI σ 86 158 (nI (lotS (x.1.2.2.2 7)))) 85 34 = x.2.2.2 := by rw [mI_wn (by decide), p13]
  have p35 : mI (wI σ 86 158 (nI (lotS (x.1.2.2.2 7)))) 85 35 = mI σ 85 35 := by rw [mI_wn (by decide)]
  have e158 : mI (wI σ 86 158 (nI (lotS (x.1.2.2.2 7)))) 86 158 = nI (lotS (x.1.2.2.2 7)) := mI_ws
  generalize wI σ 86 158 (nI (lotS (x.1.2.2.2 7))) = s1 at M1 k1 K1 p11 p12 p13 p35 e158 ⊢
  have l1 := K1.1
  have e8 : mI s1 86 156 = nI (x.1.2.2.2 5) := M1.2.2.2.2.2.2.2.2.1
  obtain ⟨s3, k3, f3⟩ := e_X6_rainBy (F := F) K1.2.1 (kcod.refl l1) e8 hF
  have k3j := k3.j (R := rHM) (fun x y q => Or.inl (by unfold rN; omega))
  have K3 := K1.j k3j rHM_rM
  have l3 := K3.1
  have M3 := M1.keep (k3.2 86 (by decide))
  have e85 := k3.2 85 (by decide)
  rw [gN l1, Option.bind_some, Option.bind_some, aN l1 (by decide), Option.bind_some, e158, show rm_ (nI (lotS (x.1.2.2.2 7))) 10 = some (nI (lotS (x.1.2.2.2 7) % 10)) from rm_nI (b := 10) (by omega) (by decide) (by decide), Option.bind_some, f3, bq_some, jn_eq]
  (try dsimp only)
  have fin : ∀ r : Nat, r ≤ 1 → ∃ σ', ((sI s3 86 157 (nI r)).bind fun σ15 => (gI σ15 85 5 62 33).bind fun v16 => (gP σ15 85 5 62 0).bind fun p17 => (aI σ15 p17 20 157).bind fun v18 => (pI σ15 85 5 62 33 ((v16 + v18))).bind fun σ19 => l_X6_dayBegins_78 (fun (σ36 : MM) => some σ36) F 85 F 0 σ19) = some σ' ∧ kj rHM σ σ' ∧ mI σ' 85 35 = mI σ 85 35 ∧ MD σ' 86 (gout L xs ys 10 (setq (setq x.1 7 (lotS (x.1.2.2.2 7))) 6 r, x.2.2.2)).1 ∧ mI σ' 85 32 = x.2.1 ∧ mI σ' 85 33 = x.2.2.1 + nI r ∧ mI σ' 85 34 = (gout L xs ys 10 (setq (setq x.1 7 (lotS (x.1.2.2.2 7))) 6 r, x.2.2.2)).2 := by
    intro r hr1
    have M4 := MD.q (S := setq x.1 7 (lotS (x.1.2.2.2 7))) (h := M3) d2 (j := 157) (i := 6) (v := r) (by decide)
    have l4 : lay (wI s3 86 157 (nI r)) := l3
    have e12 : mI (wI s3 86 157 (nI r)) 85 33 = x.2.2.1 := by rw [mI_wn (by decide), e85, p12]
    rw [show (157 : Int32) = nI 157 from rfl, sN l3 (by decide), Option.bind_some, gI_T (T85 l4), Option.bind_some, e12, gN l4, Option.bind_some, aN l4 (by decide), Option.bind_some, mI_ws, pI_T (T85 l4), Option.bind_some]
    have k5 : kj rHM s3 (wI (wI s3 86 157 (nI r)) 85 33 (x.2.2.1 + nI r)) := w_.trans (kj.w (Or.inr ⟨rfl, by decide⟩))
    have K5 := K3.j k5 rHM_rM
    have M5 : MD (wI (wI s3 86 157 (nI r)) 85 33 (x.2.2.1 + nI r)) 86 (setq (setq x.1 7 (lotS (x.1.2.2.2 7))) 6 r) := M4.keep (mI_wn (by decide))
    have g13 : mI (wI (wI s3 86 157 (nI r)) 85 33 (x.2.2.1 + nI r)) 85 34 = x.2.2.2 := by rw [mI_wy (by decide), mI_wn (by decide), e85, p13]
    obtain ⟨s6, j1, j2, j3, j4⟩ := grow_M (F := F) (s := (setq (setq x.1 7 (lotS (x.1.2.2.2 7))) 6 r, x.2.2.2)) K5 M5 g13 (t := t) (Y := Y) ⟨d1, d2, d3, d4, d5, d6, d7, d8, hr1, lotS_lt _, d11⟩ hF (fun (σ44 : MM) => some σ44)
    refine ⟨s6, j4, ((k1.trans k3j).trans k5).trans (j1.mono (fun x y q => rN1_rHM (by decide) q)), ?_, j2, ?_, ?_, j3⟩
    · rw [j1.2 85 35 (by unfold rN1 rN; omega), mI_wy (by decide), mI_wn (by decide), e85, p35]
    · rw [j1.2 85 32 (by unfold rN1 rN; omega), mI_wy (by decide), mI_wn (by decide), e85, p11]
    · rw [j1.2 85 33 (by unfold rN1 rN; omega), mI_ws]
  have hrn : (if nI (lotS (x.1.2.2.2 7) % 10) < rainS L (x.1.2.2.2 5) then 1 else 0) = rainN L x.1 := rfl
  by_cases c : nI (lotS (x.1.2.2.2 7) % 10) < rainS L (x.1.2.2.2 5)
  · rw [if_pos c] at hrn ⊢
    rw [← hrn]
    obtain ⟨s', u1, u2, u3, u4, u5, u6, u7⟩ := fin 1 (by decide)
    exact ⟨s', u1, u2, u3, u4, u5, u6, u7⟩
  · rw [if_neg c] at hrn ⊢
    rw [← hrn]
    obtain ⟨s', u1, u2, u3, u4, u5, u6, u7⟩ := fin 0 (by decide)
    exact ⟨s', u1, u2, u3, u4, u5, u6, u7⟩
end HOUR2
