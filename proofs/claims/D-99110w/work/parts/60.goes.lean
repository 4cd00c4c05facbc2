/-! THE HOUR, both -/
section CELLS
variable {σ : MM}
theorem a150 (l : lay σ) : aI σ 86 20 150 = some (mI σ 86 150) := aN (k := 150) l (by decide)
theorem s150 {v : Int32} (l : lay σ) : sI σ 86 150 v = some (wI σ 86 150 v) := sN (k := 150) l (by decide)
theorem a151 (l : lay σ) : aI σ 86 20 151 = some (mI σ 86 151) := aN (k := 151) l (by decide)
theorem s151 {v : Int32} (l : lay σ) : sI σ 86 151 v = some (wI σ 86 151 v) := sN (k := 151) l (by decide)
theorem a152 (l : lay σ) : aI σ 86 20 152 = some (mI σ 86 152) := aN (k := 152) l (by decide)
theorem s152 {v : Int32} (l : lay σ) : sI σ 86 152 v = some (wI σ 86 152 v) := sN (k := 152) l (by decide)
theorem a153 (l : lay σ) : aI σ 86 20 153 = some (mI σ 86 153) := aN (k := 153) l (by decide)
theorem s153 {v : Int32} (l : lay σ) : sI σ 86 153 v = some (wI σ 86 153 v) := sN (k := 153) l (by decide)
theorem a154 (l : lay σ) : aI σ 86 20 154 = some (mI σ 86 154) := aN (k := 154) l (by decide)
theorem s154 {v : Int32} (l : lay σ) : sI σ 86 154 v = some (wI σ 86 154 v) := sN (k := 154) l (by decide)
theorem a155 (l : lay σ) : aI σ 86 20 155 = some (mI σ 86 155) := aN (k := 155) l (by decide)
theorem s155 {v : Int32} (l : lay σ) : sI σ 86 155 v = some (wI σ 86 155 v) := sN (k := 155) l (by decide)
theorem a156 (l : lay σ) : aI σ 86 20 156 = some (mI σ 86 156) := aN (k := 156) l (by decide)
theorem s156 {v : Int32} (l : lay σ) : sI σ 86 156 v = some (wI σ 86 156 v) := sN (k := 156) l (by decide)
theorem a157 (l : lay σ) : aI σ 86 20 157 = some (mI σ 86 157) := aN (k := 157) l (by decide)
theorem s157 {v : Int32} (l : lay σ) : sI σ 86 157 v = some (wI σ 86 157 v) := sN (k := 157) l (by decide)
theorem a158 (l : lay σ) : aI σ 86 20 158 = some (mI σ 86 158) := aN (k := 158) l (by decide)
theorem s158 {v : Int32} (l : lay σ) : sI σ 86 158 v = some (wI σ 86 158 v) := sN (k := 158) l (by decide)
end CELLS
section GOES
variable {σ : MM} {F D W t Y : Nat} {x : HS} {xs ys : Nat → Nat} {L : LW}
/-- the clock -/
theorem tick_C (l : lay σ) (hD : isD D) {S : DS} {p r g : Int32} (hC : CH W σ D (S, p, r, g)) (h24 : S.2.2.2 4 < 24) {y : Int32} : ∃ σ', ((gI σ D 2 16 7).bind fun v8 => (pI σ D 2 16 7 ((v8 + 1))).bind fun σ9 => (gI σ9 D 2 16 7).bind fun v10 => if v10 = 24 then ((pI σ9 D 2 16 7 0).bind fun σ11 => (gI σ11 D 2 16 8).bind fun v12 => (pI σ11 D 2 16 8 ((v12 + 1))).bind fun σ13 => some (y, σ13)) else (some (y, σ9))) = some (y, σ') ∧ kj (rH D) σ σ' ∧ CH W σ' D (tickS S, p, r, g) := by
  obtain ⟨C0, p1, p2, p3⟩ := hC
  have w_ : ∀ {s : MM} {j : Nat} {v : Int32}, kj (rH D) s (wI s D j v) := kj.w (Or.inr (Or.inl rfl))
  have C1 := C0.q4 (v := S.2.2.2 4 + 1)
  have l1 : lay (wI σ D 7 (nI (S.2.2.2 4 + 1))) := l
  have h7 : mI σ D 7 = nI (S.2.2.2 4) := C0.2.2.2.2.2.2.1
  rw [gI_T (hD.T l), Option.bind_some, h7, nI_1, pI_T (hD.T l), Option.bind_some, gI_T (hD.T l1), Option.bind_some, mI_ws]
  unfold tickS
  by_cases c : S.2.2.2 4 + 1 = 24
  · have C2 := C1.q4 (v := 0)
    have C3 := C2.q5 (v := S.2.2.2 5 + 1)
    have l2 : lay (wI (wI σ D 7 (nI (S.2.2.2 4 + 1))) D 7 0) := l
    have h8 : mI (wI (wI σ D 7 (nI (S.2.2.2 4 + 1))) D 7 0) D 8 = nI (S.2.2.2 5) := by rw [mI_wy (by decide), mI_wy (by decide)]; exact C0.2.2.2.2.2.2.2.1
    rw [if_pos c, if_pos (show nI (S.2.2.2 4 + 1) = 24 by rw [c]; rfl), pI_T (hD.T l1), Option.bind_some, gI_T (hD.T l2), Option.bind_some, h8, nI_1, pI_T (hD.T l2), Option.bind_some]
    refine ⟨_, rfl, (w_.trans w_).trans w_, C3, ?_, ?_, ?_⟩
    · rw [mI_wy (by decide), mI_wy (by decide), mI_wy (by decide)]; exact p1
    · rw [mI_wy (by decide), mI_wy (by decide), mI_wy (by decide)]; exact p2
    · rw [mI_wy (by decide), mI_wy (by decide), mI_wy (by decide)]; exact p3
  · rw [if_neg c, if_neg (show ¬ nI (S.2.2.2 4 + 1) = 24 from fun q => c ((nI_eq (b := 24) (by omega) (by decide)).mp q))]
    refine ⟨_, rfl, w_, C1, ?_, ?_, ?_⟩
    · rw [mI_wy (by decide)]; exact p1
    · rw [mI_wy (by decide)]; exact p2
    · rw [mI_wy (by decide)]; exact p3
theorem e_X3_hourGoes (hK : CK σ L t xs ys) (hD : isD D) (hC : CH W σ D x) (hW : W < 1000000) (hw : DW t Y x.1) (hY : Y < 2147483648) (hF : 100000 ≤ F) : ∃ σ', g_X3_hourGoes F σ D = some (pv (hourS L xs ys x).1, σ') ∧ kj (rH D) σ σ' ∧ CH (W + 1) σ' D (hourS L xs ys x).2 := by
  have l := hK.1
  have C0 := hC.1
  have h7 : mI σ D 7 = nI (x.1.2.2.2 4) := C0.2.2.2.2.2.2.1
  have h24 := hw.2.2.2.2.2.2.1
  unfold g_X3_hourGoes
  rw [if_pos (hD.T l), gI_T (hD.T l), Option.bind_some, h7, jn_eq]
  (try dsimp only)
  -- the morning
  have morn : ∀ K : MM → Option (Int32 × MM), ∃ s, (if nI (x.1.2.2.2 4) = 0 then ((g_X3_dayBegins F σ D).bind fun σ21 => K σ21) else K σ) = K s ∧ kj (rH D) σ s ∧ CH W s D (mornS L xs ys x) := by
    intro K
    unfold mornS
    by_cases c : x.1.2.2.2 4 = 0
    · obtain ⟨s, e, k, C⟩ := e_X3_dayBegins (F := F) hK hD hC hW hw c hY hF
      rw [if_pos c, if_pos (show nI (x.1.2.2.2 4) = 0 by rw [c]; rfl), e, Option.bind_some]
      exact ⟨s, rfl, k, C⟩
    · rw [if_neg c, if_neg (nI_ne0 (n := x.1.2.2.2 4) (by omega) (by omega))]
      exact ⟨σ, rfl, kj.refl, hC⟩
  obtain ⟨s, em, km, Cm⟩ := morn _
  rw [em]
  clear em morn
  (try dsimp only)
  have hwm : DW t Y (mornS L xs ys x).1 := mornS_W hw
  have Km := hK.j km (rH_rC hD)
  unfold hourS
  obtain ⟨⟨S, p, rr, g⟩, hz⟩ : ∃ z, mornS L xs ys x = z := ⟨_, rfl⟩
  rw [hz] at Cm hwm ⊢
  (try dsimp only)
  have lm := Km.1
  obtain ⟨Cs, p1, p2, p3⟩ := Cm
  have Cs : CD W s D S := Cs
  have hwm : DW t Y S := hwm
  have h5 : mI s D 5 = pv (S.2.2.2 1) := Cs.2.2.2.2.1
  have h3 : mI s D 3 = pv (S.2.2.2 0) := Cs.2.2.2.1
  have d24 := hwm.2.2.2.2.2.2.1
  rw [gI_T (hD.T lm), Option.bind_some, h5, jn_eq]
  (try dsimp only)
  unfold doneS
  by_cases c1 : S.2.2.2 1 < 10
  · obtain ⟨u1, u2, u3⟩ := hwm.2.2.2.2.1 c1
    obtain ⟨f1, f2⟩ := Cs.2.2.2.2.2.1 c1
    rw [if_neg (pv_ne c1), if_pos c1, gI_T (hD.T lm), Option.bind_some, f2]
    obtain ⟨n, hn⟩ : ∃ n, S.2.2.2 3 = n + 1 := ⟨S.2.2.2 3 - 1, by omega⟩
    have C1 := Cs.q3 (v := n)
    have k1 : kj (rH D) s (wI s D 6 (nI n)) := kj.w (Or.inr (Or.inl rfl))
    have K1 := Km.j k1 (rH_rC hD)
    have l1 := K1.1
    have q1 : mI (wI s D 6 (nI n)) D 11 = p := by rw [mI_wy (by decide)]; exact p1
    have q2 : mI (wI s D 6 (nI n)) D 12 = rr := by rw [mI_wy (by decide)]; exact p2
    have q3 : mI (wI s D 6 (nI n)) D 13 = g := by rw [mI_wy (by decide)]; exact p3
    have q5 : mI (wI s D 6 (nI n)) D 5 = nI (S.2.2.2 1) := by rw [mI_wy (by decide), h5, pv_lt c1]
    rw [hn, nI_pred, pI_T (hD.T lm), Option.bind_some, gI_T (hD.T l1), Option.bind_some, mI_ws, show n + 1 - 1 = n from rfl]
    by_cases c2 : n = 0
    · subst c2
      rw [if_pos (show nI 0 = 0 from rfl), gI_T (hD.T l1), Option.bind_some, q5, if_pos rfl]
      obtain ⟨s2, e2, k2, g2, C2⟩ := e_X3_arrives (F := F) l1 hD C1 hW (S := setq S 3 0) hwm.b99 hwm.2.1 c1 u1
      have k2j := k2.mono (fun x y q => rD1_rH q)
      rw [e2, Option.bind_some]
      (try dsimp only)
      have hD4 : D ≠ 4 := hD.ne4 (Or.inl rfl)
      obtain ⟨s3, e3, k3, C3⟩ := tick_C (y := nI (S.2.2.2 1)) (k2j.ly l1) hD (S := payS (setq S 3 0) (S.2.2.2 2) (S.2.2.2 1)) (p := p + 1) (r := rr) (g := g) ⟨C2, by rw [g2, q1], by rw [k2.2 D 12 (by unfold rD1 rD; omega)]; exact q2, by rw [k2.2 D 13 (by unfold rD1 rD; omega)]; exact q3⟩ d24
      rw [e3, pv_lt c1]
      exact ⟨s3, rfl, ((km.trans k1).trans k2j).trans k3, C3⟩
    · rw [if_neg (nI_ne0 (n := n) (by omega) (by omega)), if_neg c2]
      obtain ⟨s3, e3, k3, C3⟩ := tick_C (y := -1) l1 hD (S := setq S 3 n) (p := p) (r := rr) (g := g) ⟨C1, q1, q2, q3⟩ d24
      rw [e3]
      exact ⟨s3, rfl, (km.trans k1).trans k3, C3.1.mono (by omega), C3.2⟩
  · have e10 : S.2.2.2 1 = 10 := by have := hwm.2.2.2.1; omega
    rw [e10, if_pos pv_10, if_neg (by decide), gI_T (hD.T lm), Option.bind_some, h3]
    by_cases c2 : S.2.2.2 0 < 10
    · rw [if_neg (pv_ne c2), if_pos c2]
      obtain ⟨s2, e2, k2, C2⟩ := e_X3_stays (F := F) Km hD Cs (by omega) hwm c2 hF
      have k2j := k2.mono (fun x y q => rD_rH q)
      rw [e2, Option.bind_some]
      (try dsimp only)
      have hD4 : D ≠ 4 := hD.ne4 (Or.inl rfl)
      obtain ⟨s3, e3, k3, C3⟩ := tick_C (y := -1) (k2j.ly lm) hD (S := stayS L xs ys S) (p := p) (r := rr) (g := g) ⟨C2, by rw [k2.2 D 11 (by unfold rD; omega)]; exact p1, by rw [k2.2 D 12 (by unfold rD; omega)]; exact p2, by rw [k2.2 D 13 (by unfold rD; omega)]; exact p3⟩ ((stayS_W hwm hK.2.2.xy c2).2.2.2.2.2.2.1)
      rw [e3]
      exact ⟨s3, rfl, (km.trans k2j).trans k3, C3.1.mono (by omega), C3.2⟩
    · have e0 : S.2.2.2 0 = 10 := by have := hwm.2.2.1; omega
      rw [e0, if_pos pv_10, if_neg (by decide)]
      obtain ⟨s3, e3, k3, C3⟩ := tick_C (y := -1) lm hD (S := S) (p := p) (r := rr) (g := g) ⟨Cs, p1, p2, p3⟩ d24
      rw [e3]
      exact ⟨s3, rfl, km.trans k3, C3.1.mono (by omega), C3.2⟩
/-! the model's -/
theorem tick_M (l : lay σ) {S : DS} {p r g : Int32} (hM : MH σ (S, p, r, g)) (hlen : S.2.2.1.length ≤ 40) (h24 : S.2.2.2 4 < 24) : ∃ σ', ((gP σ 85 5 62 0).bind fun p10 => (gP σ 85 5 62 0).bind fun p11 => (aI σ p11 20 155).bind fun v12 => (sI σ p10 155 ((v12 + 1))).bind fun σ13 => (gP σ13 85 5 62 0).bind fun p14 => (aI σ13 p14 20 155).bind fun v15 => if v15 < 24 then (some σ13) else ((gP σ13 85 5 62 0).bind fun p16 => (sI σ13 p16 155 0).bind fun σ17 => (gP σ17 85 5 62 0).bind fun p18 => (gP σ17 85 5 62 0).bind fun p19 => (aI σ17 p19 20 156).bind fun v20 => (sI σ17 p18 156 ((v20 + 1))).bind fun σ21 => some σ21)) = some σ' ∧ kj rHM σ σ' ∧ mI σ' 85 35 = mI σ 85 35 ∧ MH σ' (tickS S, p, r, g) := by
  obtain ⟨M0, p1, p2, p3⟩ := hM
  have w_ : ∀ {s : MM} {j : Nat} {v : Int32}, kj rHM s (wI s 86 j v) := kj.w (Or.inl (Or.inl rfl))
  have M1 := MD.q (S := S) (h := M0) hlen (j := 155) (i := 4) (v := S.2.2.2 4 + 1) (by decide)
  have l1 : lay (wI σ 86 155 (nI (S.2.2.2 4 + 1))) := l
  have h7 : mI σ 86 155 = nI (S.2.2.2 4) := M0.2.2.2.2.2.2.2.1
  rw [gN l, Option.bind_some, Option.bind_some, show (155 : Int32) = nI 155 from rfl, aN l (by decide), Option.bind_some, h7, nI_1, sN l (by decide), Option.bind_some, gN l1, Option.bind_some, aN l1 (by decide), Option.bind_some, mI_ws]
  unfold tickS
  by_cases c : S.2.2.2 4 + 1 = 24
  · have M2 := MD.q (S := setq S 4 (S.2.2.2 4 + 1)) (h := M1) hlen (j := 155) (i := 4) (v := 0) (by decide)
    have M3 := MD.q (S := setq (setq S 4 (S.2.2.2 4 + 1)) 4 0) (h := M2) hlen (j := 156) (i := 5) (v := S.2.2.2 5 + 1) (by decide)
    have l2 : lay (wI (wI σ 86 155 (nI (S.2.2.2 4 + 1))) 86 155 (nI 0)) := l
    have h8 : mI (wI (wI σ 86 155 (nI (S.2.2.2 4 + 1))) 86 155 (nI 0)) 86 156 = nI (S.2.2.2 5) := by rw [mI_wy (by decide), mI_wy (by decide)]; exact M0.2.2.2.2.2.2.2.2.1
    rw [if_pos c, if_neg (show ¬ nI (S.2.2.2 4 + 1) < 24 by rw [c]; decide), Option.bind_some, show (0 : Int32) = nI 0 from rfl, sN l1 (by decide), Option.bind_some, gN l2, Option.bind_some, Option.bind_some, show (156 : Int32) = nI 156 from rfl, aN l2 (by decide), Option.bind_some, h8, nI_1, sN l2 (by decide), Option.bind_some]
    refine ⟨_, rfl, (w_.trans w_).trans w_, ?_, M3, ?_, ?_, ?_⟩
    · rw [mI_wn (by decide), mI_wn (by decide), mI_wn (by decide)]
    · rw [mI_wn (by decide), mI_wn (by decide), mI_wn (by decide)]; exact p1
    · rw [mI_wn (by decide), mI_wn (by decide), mI_wn (by decide)]; exact p2
    · rw [mI_wn (by decide), mI_wn (by decide), mI_wn (by decide)]; exact p3
  · rw [if_neg c, if_pos (show nI (S.2.2.2 4 + 1) < 24 from nI_lt (b := 24) (by omega) (by decide))]
    refine ⟨_, rfl, w_, ?_, M1, ?_, ?_, ?_⟩
    · rw [mI_wn (by decide)]
    · rw [mI_wn (by decide)]; exact p1
    · rw [mI_wn (by decide)]; exact p2
    · rw [mI_wn (by decide)]; exact p3
theorem MH.keep {σ' : MM} (h : MH σ x) (h1 : mI σ' 86 = mI σ 86) (h2 : ∀ j, 32 ≤ j → j ≤ 34 → mI σ' 85 j = mI σ 85 j) : MH σ' x := ⟨h.1.keep h1, by rw [h2 32 (by decide) (by decide)]; exact h.2.1, by rw [h2 33 (by decide) (by decide)]; exact h.2.2.1, by rw [h2 34 (by decide) (by decide)]; exact h.2.2.2⟩
theorem e_X6_hourGoes (hK : MK σ L t xs ys) (hM : MH σ x) (hw : DW t Y x.1) (hF : 100000 ≤ F) : ∃ σ', g_X6_hourGoes F σ 85 = some σ' ∧ kj rHM σ σ' ∧ mI σ' 85 35 = qv (hourS L xs ys x).1 ∧ MH σ' (hourS L xs ys x).2 := by
  have l := hK.1
  have k0 : kj rHM σ (wI σ 85 35 (-2)) := kj.w (Or.inr ⟨rfl, by decide⟩)
  have K0 := hK.j k0 rHM_rM
  have M0 : MH (wI σ 85 35 (-2)) x := hM.keep (mI_wn (by decide)) (fun j h1 h2 => mI_wy (by omega))
  have e35 : mI (wI σ 85 35 (-2)) 85 35 = -2 := mI_ws
  have h24 := hw.2.2.2.2.2.2.1
  unfold g_X6_hourGoes
  rw [if_pos (T85 l), pI_T (T85 l), Option.bind_some]
  generalize wI σ 85 35 (-2) = s0 at k0 K0 M0 e35 ⊢
  have l0 := K0.1
  have h7 : mI s0 86 155 = nI (x.1.2.2.2 4) := M0.1.2.2.2.2.2.2.2.1
  rw [gN l0, Option.bind_some, a155 l0, Option.bind_some, h7, jn_eq]
  (try dsimp only)
  have morn : ∀ K : MM → Option MM, ∃ s, (if nI (x.1.2.2.2 4) = 0 then ((g_X6_dayBegins F s0 85).bind fun σ42 => K σ42) else K s0) = K s ∧ kj rHM s0 s ∧ mI s 85 35 = -2 ∧ MH s (mornS L xs ys x) := by
    intro K
    unfold mornS
    by_cases c : x.1.2.2.2 4 = 0
    · obtain ⟨s, e, k, f, M⟩ := e_X6_dayBegins (F := F) K0 M0 hw hF
      rw [if_pos c, if_pos (show nI (x.1.2.2.2 4) = 0 by rw [c]; rfl), e, Option.bind_some]
      exact ⟨s, rfl, k, f.trans e35, M⟩
    · rw [if_neg c, if_neg (nI_ne0 (n := x.1.2.2.2 4) (by omega) (by omega))]
      exact ⟨s0, rfl, kj.refl, e35, M0⟩
  obtain ⟨s, em, km, fm, Mm⟩ := morn _
  rw [em]
  clear em morn
  (try dsimp only)
  have hwm : DW t Y (mornS L xs ys x).1 := mornS_W hw
  have Km := K0.j km rHM_rM
  unfold hourS
  obtain ⟨⟨S, p, rr, g⟩, hz⟩ : ∃ z, mornS L xs ys x = z := ⟨_, rfl⟩
  rw [hz] at Mm hwm ⊢
  (try dsimp only)
  have lm := Km.1
  obtain ⟨Ms, p1, p2, p3⟩ := Mm
  have Ms : MD s 86 S := Ms
  have hwm : DW t Y S := hwm
  have Ms0 := Ms
  obtain ⟨m1, m2, m3, m5, m6, m7, m8, m9, m10, m11, m12⟩ := Ms0
  have d24 := hwm.2.2.2.2.2.2.1
  have hlen := hwm.2.1
  rw [gN lm, Option.bind_some, a154 lm, Option.bind_some, m8, jn_eq]
  (try dsimp only)
  unfold doneS
  have w_ : ∀ {s : MM} {j : Nat} {v : Int32}, kj rHM s (wI s 86 j v) := kj.w (Or.inl (Or.inl rfl))
  by_cases c1 : S.2.2.2 1 < 10
  · obtain ⟨u1, u2, u3⟩ := hwm.2.2.2.2.1 c1
    obtain ⟨n, hn⟩ : ∃ n, S.2.2.2 3 = n + 1 := ⟨S.2.2.2 3 - 1, by omega⟩
    have h154 : aI s 86 20 154 = some (nI (n + 1)) := by rw [a154 lm, m8, if_pos c1, hn]
    rw [if_pos c1, hn, if_pos (show 0 < nI (n + 1) from nI_lt (a := 0) (by omega) (by omega)), Option.bind_some, Option.bind_some, h154, Option.bind_some, nI_pred, s154 lm, Option.bind_some]
    have M1 := Ms.q3 hlen c1 (v := n)
    have k1 : kj rHM s (wI s 86 154 (nI n)) := w_
    have K1 := Km.j k1 rHM_rM
    have l1 := K1.1
    have q1 : mI (wI s 86 154 (nI n)) 85 32 = p := by rw [mI_wn (by decide)]; exact p1
    have q2 : mI (wI s 86 154 (nI n)) 85 33 = rr := by rw [mI_wn (by decide)]; exact p2
    have q3 : mI (wI s 86 154 (nI n)) 85 34 = g := by rw [mI_wn (by decide)]; exact p3
    have q35 : mI (wI s 86 154 (nI n)) 85 35 = -2 := by rw [mI_wn (by decide)]; exact fm
    have q153 : mI (wI s 86 154 (nI n)) 86 153 = nI (S.2.2.2 1) := by rw [mI_wy (by decide), m6, qv_lt c1]
    have q152 : mI (wI s 86 154 (nI n)) 86 152 = nI (S.2.2.2 2) := by rw [mI_wy (by decide), m7 c1]
    rw [gN l1, Option.bind_some, a154 l1, Option.bind_some, mI_ws, show n + 1 - 1 = n from rfl, if_pos c1]
    by_cases c2 : n = 0
    · subst c2
      have l2 : lay (wI (wI s 86 154 (nI 0)) 85 35 (nI (S.2.2.2 1))) := l1
      have k2 : kj rHM (wI s 86 154 (nI 0)) (wI (wI s 86 154 (nI 0)) 85 35 (nI (S.2.2.2 1))) := kj.w (Or.inr ⟨rfl, by decide⟩)
      have M2 : MD (wI (wI s 86 154 (nI 0)) 85 35 (nI (S.2.2.2 1))) 86 (setq S 3 0) := M1.keep (mI_wn (by decide))
      have r152 : mI (wI (wI s 86 154 (nI 0)) 85 35 (nI (S.2.2.2 1))) 86 152 = nI (S.2.2.2 2) := by rw [mI_wn (by decide), q152]
      have r35 : mI (wI (wI s 86 154 (nI 0)) 85 35 (nI (S.2.2.2 1))) 85 35 = nI (S.2.2.2 1) := mI_ws
      have r32 : mI (wI (wI s 86 154 (nI 0)) 85 35 (nI (S.2.2.2 1))) 85 32 = p := by rw [mI_wy (by decide), q1]
      have r33 : mI (wI (wI s 86 154 (nI 0)) 85 35 (nI (S.2.2.2 1))) 85 33 = rr := by rw [mI_wy (by decide), q2]
      have r34 : mI (wI (wI s 86 154 (nI 0)) 85 35 (nI (S.2.2.2 1))) 85 34 = g := by rw [mI_wy (by decide), q3]
      rw [if_pos (show nI 0 = 0 from rfl), if_pos rfl, Option.bind_some, a153 l1, Option.bind_some, q153, pI_T (T85 l1), Option.bind_some, gN l2, Option.bind_some, a152 l2, Option.bind_some, r152, gI_T (T85 l2), Option.bind_some, r35]
      obtain ⟨s3, e3, k3, M3⟩ := e_X6_pays (F := F) l2 M2 (S := setq S 3 0) (hwm.1 _ u1 _ c1).1 hlen u1 c1 hF
      have k3j := k3.j (R := rHM) (fun x y q => Or.inl (Or.inl q))
      have l3 := k3.ly l2
      have e85 := k3.2 85 (by decide)
      rw [e3, Option.bind_some, gI_T (T85 l3), Option.bind_some, e85, r32, pI_T (T85 l3), Option.bind_some]
      have k4 : kj rHM s3 (wI s3 85 32 (p + 1)) := kj.w (Or.inr ⟨rfl, by decide⟩)
      obtain ⟨s5, e5, k5, f5, M5⟩ := tick_M (k4.ly l3) (S := payS (setq S 3 0) (S.2.2.2 2) (S.2.2.2 1)) (p := p + 1) (r := rr) (g := g) ⟨M3.keep (mI_wn (by decide)), mI_ws, by rw [mI_wy (by decide), e85, r33], by rw [mI_wy (by decide), e85, r34]⟩ (by
        show (pushS S.2.2.1 (S.2.2.2 1)).length ≤ 40
        rw [pushS_len hlen]; omega) d24
      rw [e5]
      refine ⟨s5, rfl, (((((k0.trans km).trans k1).trans k2).trans k3j).trans k4).trans k5, ?_, M5⟩
      rw [f5, mI_wy (by decide), e85, r35, qv_lt c1]
    · rw [if_neg (nI_ne0 (n := n) (by omega) (by omega)), if_neg c2]
      obtain ⟨s5, e5, k5, f5, M5⟩ := tick_M l1 (S := setq S 3 n) (p := p) (r := rr) (g := g) ⟨M1, q1, q2, q3⟩ hlen d24
      rw [← gN l1, e5]
      exact ⟨s5, rfl, ((k0.trans km).trans k1).trans k5, f5.trans q35, M5⟩
  · rw [if_neg c1, if_neg c1, if_neg (show ¬ 0 < nI 0 by decide), gN lm, Option.bind_some, a151 lm, Option.bind_some, m5]
    by_cases c2 : S.2.2.2 0 < 10
    · rw [if_neg (qv_ne c2), if_pos c2, Option.bind_some, a151 lm, Option.bind_some, m5, qv_lt c2]
      obtain ⟨s2, e2, k2, M2⟩ := e_X6_holds (F := F) Km Ms hwm rfl c2 hF
      have k2j := k2.mono (R' := rHM) (fun x y q => Or.inl q)
      rw [e2, Option.bind_some]
      (try dsimp only)
      have e85 : ∀ y, mI s2 85 y = mI s 85 y := fun y => k2.2 85 y (by unfold rN; omega)
      have hw2 := stayS_W (L := L) hwm hK.2.2.xy c2
      obtain ⟨s5, e5, k5, f5, M5⟩ := tick_M (k2j.ly lm) (S := stayS L xs ys S) (p := p) (r := rr) (g := g) ⟨M2, by rw [e85]; exact p1, by rw [e85]; exact p2, by rw [e85]; exact p3⟩ hw2.2.1 hw2.2.2.2.2.2.2.1
      rw [e5]
      exact ⟨s5, rfl, ((k0.trans km).trans k2j).trans k5, by rw [f5, e85, fm]; rfl, M5⟩
    · have e0 : S.2.2.2 0 = 10 := by have := hwm.2.2.1; omega
      rw [e0, if_pos (show qv 10 < 0 by decide), if_neg (by decide)]
      obtain ⟨s5, e5, k5, f5, M5⟩ := tick_M lm (S := S) (p := p) (r := rr) (g := g) ⟨Ms, p1, p2, p3⟩ hlen d24
      rw [← gN lm, e5]
      exact ⟨s5, rfl, (k0.trans km).trans k5, by rw [f5, fm]; rfl, M5⟩
end GOES
