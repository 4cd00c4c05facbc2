/-! ALL EVEN: who lacks, who wants -/
abbrev LSt : Type := Nat × (Nat → Nat)
def addL (p : Nat) (s : LSt) : LSt := (s.1 + 1, updF s.2 s.1 p)
def repL (p : Nat) : Nat → LSt → LSt
  | 0, s => s
  | k + 1, s => addL p (repL p k s)
def lsB (v : Nat → Nat) : Nat → LSt
  | 0 => (0, fun _ => 0)
  | p + 1 => repL p (v p) (lsB v p)
theorem repL_n {p : Nat} {s : LSt} : ∀ k, (repL p k s).1 = s.1 + k
  | 0 => rfl
  | k + 1 => by show (repL p k s).1 + 1 = _; rw [repL_n k]; omega
theorem lsB_n {v : Nat → Nat} : ∀ n, (lsB v n).1 = sm v n
  | 0 => rfl
  | n + 1 => by show (repL n (v n) (lsB v n)).1 = sm v n + v n; rw [repL_n, lsB_n n]
def lsW (s : LSt) : Prop := ∀ i, i < s.1 → s.2 i < 10
theorem repL_W {p : Nat} {s : LSt} (h : lsW s) (hp : p < 10) : ∀ k, lsW (repL p k s)
  | 0 => h
  | k + 1 => by
    have ih := repL_W h hp k
    intro i hi
    have hi : i < (repL p k s).1 + 1 := hi
    show updF (repL p k s).2 (repL p k s).1 p i < 10
    unfold updF
    by_cases c : i = (repL p k s).1
    · rw [if_pos c]; exact hp
    · rw [if_neg c]; exact ih i (by omega)
theorem lsB_W {v : Nat → Nat} : ∀ n, n ≤ 10 → lsW (lsB v n)
  | 0, _ => fun i hi => absurd hi (Nat.not_lt_zero i)
  | n + 1, h => repL_W (lsB_W n (by omega)) (by omega) (v n)
def posV (d : Nat → Nat → Nat) (p : Nat) : Nat := getsS d p - owesS d p
def negV (d : Nat → Nat → Nat) (p : Nat) : Nat := owesS d p - getsS d p
theorem pos_neg (d : Nat → Nat → Nat) : sm (posV d) 10 = sm (negV d) 10 := by
  have h := owes_gets d
  have e1 : sm (fun p => posV d p + owesS d p) 10 = sm (fun p => negV d p + getsS d p) 10 := sm_congr 10 (fun p _ => by unfold posV negV; omega)
  rw [sm_add, sm_add] at e1
  have e2 : sm (fun p => owesS d p) 10 = sm (fun p => getsS d p) 10 := h
  have e3 : sm (fun p => posV d p) 10 = sm (posV d) 10 := rfl
  have e4 : sm (fun p => negV d p) 10 = sm (negV d) 10 := rfl
  omega
theorem net_lt {d : Nat → Nat → Nat} {p k : Nat} (h1 : getsS d p ≤ 990) (h2 : owesS d p ≤ 990) (hk : k < 1000) : nI k < netI d p ↔ k < posV d p := by
  unfold netI posV
  rw [nI_subI, nI_iI, iI_lt (by omega) (by omega) (by omega) (by omega)]
  omega
theorem net_neg {d : Nat → Nat → Nat} {p k : Nat} (h1 : getsS d p ≤ 990) (h2 : owesS d p ≤ 990) (hk : k < 1000) : nI k < - netI d p ↔ k < negV d p := by
  unfold netI negV
  rw [nI_subI, iI_neg, nI_iI, iI_lt (by omega) (by omega) (by omega) (by omega)]
  omega
theorem net_max {d : Nat → Nat → Nat} {p : Nat} (h1 : getsS d p ≤ 990) (h2 : owesS d p ≤ 990) : jmax 0 (netI d p) = nI (posV d p) := by
  unfold netI posV
  rw [nI_subI, show (0 : Int32) = iI 0 from rfl, jmax_iI (by omega) (by omega) (by omega) (by omega), nI_iI]
  congr 1
  omega
section EVENL
variable {B F : Nat} {G : GG}
theorem e_X0_lack {σ : MM} (hG : GW B G) (h : CI B σ G) (hF : 100000 ≤ F) : g_X0_lack F σ 1 = some (nI (sm (posV G.S.1) 10), σ) := by
  have h9 := hG.2.2.1.b99
  unfold g_X0_lack
  rw [if_pos (T1 h.l)]
  refine ylv (fun f v i σ => l_X0_lack_4 (fun (r1_6 : Int32) (σ5 : MM) => some (r1_6, σ5)) F 1 f v i σ) (fun v σ => some (v, σ)) (fun i => nI (sm (posV G.S.1) i)) σ 10 (fun f i hi => ?_) (fun f => ?_) (f := F) (by omega)
  · (try dsimp only)
    rw [l_X0_lack_4.eq_2, if_pos (ten_in hi), e_X0_netOf h hi hF, bq_some, net_max (gets_le h9 hi) (owes_le h9 hi), nI_add, nI_1]
    rfl
  · (try dsimp only)
    rw [l_X0_lack_4.eq_2, if_neg ten_no]
def rEv (x _y : Nat) : Prop := x = 80 ∨ x = 81
theorem rEv_rSC (x y : Nat) (h : rEv x y) : rSC x y := by
  unfold rEv at h
  unfold rSC
  omega
def hasE (σ : MM) (A : Nat) (s : LSt) : Prop := ∀ i, i < s.1 → i < 6 → mI σ A i = nI (s.2 i)
theorem hasE_add {σ : MM} {A p : Nat} {s : LSt} (h : hasE σ A s) : hasE (wI σ A s.1 (nI p)) A (addL p s) := by
  intro i hi h6
  have hi : i < s.1 + 1 := hi
  show _ = nI (updF s.2 s.1 p i)
  unfold updF
  by_cases c : i = s.1
  · rw [if_pos c, c, mI_ws]
  · rw [if_neg c, mI_wy c]; exact h i (by omega) h6
theorem hasE_o {σ : MM} {A A' j : Nat} {v : Int32} {s : LSt} (hne : A ≠ A') (h : hasE σ A s) : hasE (wI σ A' j v) A s := fun i hi h6 => by rw [mI_wn hne]; exact h i hi h6
theorem hasE.k {σ σ' : MM} {A : Nat} {s : LSt} {R : Nat → Nat → Prop} (h : hasE σ A s) (k : kj R σ σ') (hR : ∀ y, ¬ R A y) : hasE σ' A s := fun i hi h6 => by rw [k.2 A i (hR i)]; exact h i hi h6
theorem sm_part {v : Nat → Nat} {p k : Nat} (hp : p < 10) (hk : k < v p) : sm v p + k < sm v 10 := by
  have h := sm_mono_n (f := v) (m := p + 1) 10 (by omega)
  have e : sm v (p + 1) = sm v p + v p := rfl
  omega
theorem e_X0_takesLack {σ : MM} (hG : GW B G) (h : CI B σ G) (hm : sm (posV G.S.1) 10 ≤ 6) (hF : 100000 ≤ F) : ∃ σ', g_X0_takesLack F σ 1 = some σ' ∧ kj rEv σ σ' ∧ hasE σ' 80 (lsB (posV G.S.1) 10) ∧ hasE σ' 81 (lsB (negV G.S.1) 10) := by
  have l := h.l
  have h9 := hG.2.2.1.b99
  have hneg := pos_neg G.S.1
  have pv990 : ∀ p, p < 10 → posV G.S.1 p ≤ 990 := fun p hp => by have := gets_le h9 hp; unfold posV; omega
  have nv990 : ∀ p, p < 10 → negV G.S.1 p ≤ 990 := fun p hp => by have := owes_le h9 hp; unfold negV; omega
  unfold g_X0_takesLack
  rw [if_pos (T1 l)]
  obtain ⟨v, s, ⟨k1, v1, o1, g1⟩, e1⟩ := yl2 (fun f (v : Int32 × Int32) i σ => l_X0_takesLack_6 (fun (σ13 : MM) => some σ13) F 1 f v.1 v.2 i σ) (fun _ σ => some σ) (fun p v s => kj rEv σ s ∧ v = (nI (lsB (posV G.S.1) p).1, nI (lsB (negV G.S.1) p).1) ∧ hasE s 80 (lsB (posV G.S.1) p) ∧ hasE s 81 (lsB (negV G.S.1) p)) 10 (by
    intro f p v s hp ⟨k1, v1, o1, g1⟩
    subst v1
    have b1 := gets_le h9 hp
    have b2 := owes_le h9 hp
    -- those who lack
    have A : ∀ (K : Int32 → MM → Option MM) n k e t, k + n = posV G.S.1 p → n < e → kj rEv σ t → hasE t 80 (repL p k (lsB (posV G.S.1) p)) → hasE t 81 (lsB (negV G.S.1) p) → ∃ t', kj rEv σ t' ∧ hasE t' 80 (lsB (posV G.S.1) (p + 1)) ∧ hasE t' 81 (lsB (negV G.S.1) p) ∧ l_X0_takesLack_15 K F 1 (nI (lsB (negV G.S.1) p).1) (nI p) e (nI (repL p k (lsB (posV G.S.1) p)).1) (nI k) t = K (nI (lsB (posV G.S.1) (p + 1)).1) t' := by
      intro K n
      induction n with
      | zero =>
        intro k e t ee he k2 o2 g2
        obtain ⟨e, rfl⟩ : ∃ g, e = g + 1 := ⟨e - 1, by omega⟩
        have ee : k = posV G.S.1 p := by omega
        have ht := h.s k2 rEv_rSC
        have p990 := pv990 p hp
        rw [l_X0_takesLack_15.eq_2, e_X0_netOf ht hp hF, bq_some, if_neg (fun q => by have := (net_lt b1 b2 (by omega)).mp q; omega)]
        subst ee
        exact ⟨t, k2, o2, g2, rfl⟩
      | succ n ih =>
        intro k e t ee he k2 o2 g2
        obtain ⟨e, rfl⟩ : ∃ g, e = g + 1 := ⟨e - 1, by omega⟩
        have ht := h.s k2 rEv_rSC
        have lt := ht.l
        have p990 := pv990 p hp
        have cn : (repL p k (lsB (posV G.S.1) p)).1 = sm (posV G.S.1) p + k := by rw [repL_n, lsB_n]
        have part := sm_part (v := posV G.S.1) hp (k := k) (by omega)
        have i6 : (repL p k (lsB (posV G.S.1) p)).1 < 6 := by omega
        rw [l_X0_takesLack_15.eq_2, e_X0_netOf ht hp hF, bq_some, if_pos ((net_lt b1 b2 (by omega)).mpr (by omega)), gP_T (T1 lt), Option.bind_some, P1_17 lt, sI_T (by rw [T80 lt]) (by rw [T80 lt]; exact i6) (by rw [T80 lt]; decide), Option.bind_some, nI_1, nI_1]
        exact ih (k + 1) e _ (by omega) (by omega) (k2.trans (kj.w (Or.inl rfl))) (hasE_add o2) (hasE_o (by decide) g2)
    have Bq : ∀ (K : Int32 → MM → Option MM) (x1 : Int32) n k e t, k + n = negV G.S.1 p → n < e → kj rEv σ t → hasE t 80 (lsB (posV G.S.1) (p + 1)) → hasE t 81 (repL p k (lsB (negV G.S.1) p)) → ∃ t', kj rEv σ t' ∧ hasE t' 80 (lsB (posV G.S.1) (p + 1)) ∧ hasE t' 81 (lsB (negV G.S.1) (p + 1)) ∧ l_X0_takesLack_44 K F 1 x1 (nI p) e (nI (repL p k (lsB (negV G.S.1) p)).1) (nI k) t = K (nI (lsB (negV G.S.1) (p + 1)).1) t' := by
      intro K x1 n
      induction n with
      | zero =>
        intro k e t ee he k2 o2 g2
        obtain ⟨e, rfl⟩ : ∃ g, e = g + 1 := ⟨e - 1, by omega⟩
        have ee : k = negV G.S.1 p := by omega
        have ht := h.s k2 rEv_rSC
        have p990 := nv990 p hp
        rw [l_X0_takesLack_44.eq_2, e_X0_netOf ht hp hF, bq_some, if_neg (fun q => by have := (net_neg b1 b2 (by omega)).mp q; omega)]
        subst ee
        exact ⟨t, k2, o2, g2, rfl⟩
      | succ n ih =>
        intro k e t ee he k2 o2 g2
        obtain ⟨e, rfl⟩ : ∃ g, e = g + 1 := ⟨e - 1, by omega⟩
        have ht := h.s k2 rEv_rSC
        have lt := ht.l
        have p990 := nv990 p hp
        have cn : (repL p k (lsB (negV G.S.1) p)).1 = sm (negV G.S.1) p + k := by rw [repL_n, lsB_n]
        have part := sm_part (v := negV G.S.1) hp (k := k) (by omega)
        have i6 : (repL p k (lsB (negV G.S.1) p)).1 < 6 := by omega
        rw [l_X0_takesLack_44.eq_2, e_X0_netOf ht hp hF, bq_some, if_pos ((net_neg b1 b2 (by omega)).mpr (by omega)), gP_T (T1 lt), Option.bind_some, P1_18 lt, sI_T (by rw [T81 lt]) (by rw [T81 lt]; exact i6) (by rw [T81 lt]; decide), Option.bind_some, nI_1, nI_1]
        exact ih (k + 1) e _ (by omega) (by omega) (k2.trans (kj.w (Or.inr rfl))) (hasE_o (by decide) o2) (hasE_add g2)
    (try dsimp only)
    rw [l_X0_takesLack_6.eq_2, if_pos (ten_in hp)]
    obtain ⟨t1, a1, a2, a3, a4⟩ := A (fun (r1_6 : Int32) (σ5 : MM) => l_X0_takesLack_44 (fun (r2_12 : Int32) (σ11 : MM) => l_X0_takesLack_6 (fun (σ13 : MM) => some σ13) F 1 f r1_6 r2_12 ((nI p + 1)) σ11) F 1 r1_6 (nI p) F (nI (lsB (negV G.S.1) p).1) 0 σ5) (posV G.S.1 p) 0 F s (by omega) (by have := pv990 p hp; omega) k1 o1 g1
    obtain ⟨t2, c1, c2, c3, c4⟩ := Bq (fun (r2_12 : Int32) (σ11 : MM) => l_X0_takesLack_6 (fun (σ13 : MM) => some σ13) F 1 f (nI (lsB (posV G.S.1) (p + 1)).1) r2_12 ((nI p + 1)) σ11) (nI (lsB (posV G.S.1) (p + 1)).1) (negV G.S.1 p) 0 F t1 (by omega) (by have := nv990 p hp; omega) a1 a2 a3
    refine ⟨(nI (lsB (posV G.S.1) (p + 1)).1, nI (lsB (negV G.S.1) (p + 1)).1), t2, ⟨c1, rfl, c2, c3⟩, ?_⟩
    refine (show _ = _ from a4).trans ?_
    (try dsimp only)
    refine (show _ = _ from c4).trans ?_
    (try dsimp only)
    rw [nI_1]) (by
    intro f v s _
    (try dsimp only)
    rw [l_X0_takesLack_6.eq_2, if_neg ten_no]) (f := F) (v := (0, 0)) (by omega) ⟨kj.refl, rfl, fun i hi => absurd hi (Nat.not_lt_zero i), fun i hi => absurd hi (Nat.not_lt_zero i)⟩
  exact ⟨s, e1, k1, o1, g1⟩
/-! the model's -/
def rLk (x y : Nat) : Prop := x = 117 ∨ x = 118 ∨ (x = 85 ∧ y = 58)
theorem rLk_rSM (x y : Nat) (h : rLk x y) : rSM x y := by
  unfold rLk at h
  unfold rSM
  omega
theorem hasE_full {σ : MM} {A p : Nat} {s : LSt} (h : hasE σ A s) (h6 : 6 ≤ s.1) : hasE σ A (addL p s) := by
  intro i hi h6'
  show _ = nI (updF s.2 s.1 p i)
  unfold updF
  rw [if_neg (by omega)]
  exact h i (by omega) h6'
theorem e_X6_laysLacks {σ : MM} (hG : GW B G) (h : MI σ G) (hF : 100000 ≤ F) : ∃ σ', g_X6_laysLacks F σ 85 = some σ' ∧ kj rLk σ σ' ∧ mI σ' 85 58 = nI (sm (posV G.S.1) 10) ∧ hasE σ' 117 (lsB (posV G.S.1) 10) ∧ hasE σ' 118 (lsB (negV G.S.1) 10) := by
  have l := h.l
  have h9 := hG.2.2.1.b99
  have pv990 : ∀ p, p < 10 → posV G.S.1 p ≤ 990 := fun p hp => by have := gets_le h9 hp; unfold posV; omega
  have nv990 : ∀ p, p < 10 → negV G.S.1 p ≤ 990 := fun p hp => by have := owes_le h9 hp; unfold negV; omega
  have sp : ∀ p, p ≤ 10 → sm (posV G.S.1) p ≤ 9900 := fun p hp => Nat.le_trans (sm_mono_n 10 hp) (sm_le (M := 990) 10 pv990)
  have sn : ∀ p, p ≤ 10 → sm (negV G.S.1) p ≤ 9900 := fun p hp => Nat.le_trans (sm_mono_n 10 hp) (sm_le (M := 990) 10 nv990)
  have k0 : kj rLk σ (wI σ 85 58 0) := kj.w (Or.inr (Or.inr ⟨rfl, rfl⟩))
  unfold g_X6_laysLacks
  rw [if_pos (T85 l), pI_T (T85 l), Option.bind_some]
  obtain ⟨v, s, ⟨k1, v1, i1, o1, g1⟩, e1⟩ := yl2 (fun f v i σ => l_X6_laysLacks_9 (fun (σ19 : MM) => some σ19) F 85 f v i σ) (fun _ σ => some σ) (fun p v s => kj rLk σ s ∧ v = nI (lsB (negV G.S.1) p).1 ∧ mI s 85 58 = nI (lsB (posV G.S.1) p).1 ∧ hasE s 117 (lsB (posV G.S.1) p) ∧ hasE s 118 (lsB (negV G.S.1) p)) 10 (by
    intro f p v s hp ⟨k1, v1, i1, o1, g1⟩
    subst v1
    have b1 := gets_le h9 hp
    have b2 := owes_le h9 hp
    have hs := h.s k1 rLk_rSM
    have A : ∀ (K : MM → Option MM) (x1 : Int32) n k e t, k + n = posV G.S.1 p → n < e → kj rLk σ t → mI t 85 58 = nI (repL p k (lsB (posV G.S.1) p)).1 → hasE t 117 (repL p k (lsB (posV G.S.1) p)) → hasE t 118 (lsB (negV G.S.1) p) → ∃ t', kj rLk σ t' ∧ mI t' 85 58 = nI (lsB (posV G.S.1) (p + 1)).1 ∧ hasE t' 117 (lsB (posV G.S.1) (p + 1)) ∧ hasE t' 118 (lsB (negV G.S.1) p) ∧ l_X6_laysLacks_24 K F 85 x1 (nI p) (netI G.S.1 p) e (nI k) t = K t' := by
      intro K x1 n
      induction n with
      | zero =>
        intro k e t ee he k2 i2 o2 g2
        obtain ⟨e, rfl⟩ : ∃ g, e = g + 1 := ⟨e - 1, by omega⟩
        have ee : k = posV G.S.1 p := by omega
        have p990 := pv990 p hp
        rw [l_X6_laysLacks_24.eq_2, if_neg (fun q => by have := (net_lt b1 b2 (by omega)).mp q; omega)]
        subst ee
        exact ⟨t, k2, i2, o2, g2, rfl⟩
      | succ n ih =>
        intro k e t ee he k2 i2 o2 g2
        obtain ⟨e, rfl⟩ : ∃ g, e = g + 1 := ⟨e - 1, by omega⟩
        have ht := h.s k2 rLk_rSM
        have lt := ht.l
        have p990 := pv990 p hp
        have cn : (repL p k (lsB (posV G.S.1) p)).1 = sm (posV G.S.1) p + k := by rw [repL_n, lsB_n]
        have part := sm_part (v := posV G.S.1) hp (k := k) (by omega)
        have s10 := sp 10 (Nat.le_refl _)
        obtain ⟨C, hC⟩ : ∃ C, repL p k (lsB (posV G.S.1) p) = C := ⟨_, rfl⟩
        have e3 : repL p (k + 1) (lsB (posV G.S.1) p) = addL p C := by rw [← hC]; rfl
        rw [hC] at i2 o2 cn
        rw [l_X6_laysLacks_24.eq_2, if_pos ((net_lt b1 b2 (by omega)).mpr (by omega)), gI_T (T85 lt), Option.bind_some, i2]
        dsimp only [jn]
        by_cases c6 : C.1 < 6
        · have l2 : lay (wI t 117 C.1 (nI p)) := lt
          have i3 : mI (wI t 117 C.1 (nI p)) 85 58 = nI C.1 := by rw [mI_wn (by decide), i2]
          rw [if_pos (show nI C.1 < 6 from nI_lt (b := 6) c6 (by decide)), gP_T (T85 lt), Option.bind_some, P85_54 lt, Option.bind_some, sI_T (by rw [T117 lt]) (by rw [T117 lt]; exact c6) (by rw [T117 lt]; decide), Option.bind_some, gI_T (T85 l2), Option.bind_some, i3, pI_T (T85 l2), Option.bind_some, nI_1, nI_1]
          have := ih (k + 1) e (wI (wI t 117 C.1 (nI p)) 85 58 (nI (C.1 + 1))) (by omega) (by omega) ((k2.trans (kj.w (Or.inl rfl))).trans (kj.w (Or.inr (Or.inr ⟨rfl, rfl⟩)))) (by rw [e3, mI_ws]; rfl) (by rw [e3]; exact hasE_o (by decide) (hasE_add o2)) (hasE_o (by decide) (hasE_o (by decide) g2))
          exact this
        · rw [if_neg (show ¬ nI C.1 < 6 from nI_nlt (b := 6) (by omega) (by omega)), gI_T (T85 lt), Option.bind_some, i2, pI_T (T85 lt), Option.bind_some, nI_1, nI_1]
          have := ih (k + 1) e (wI t 85 58 (nI (C.1 + 1))) (by omega) (by omega) (k2.trans (kj.w (Or.inr (Or.inr ⟨rfl, rfl⟩)))) (by rw [e3, mI_ws]; rfl) (by rw [e3]; exact hasE_o (by decide) (hasE_full o2 (by omega))) (hasE_o (by decide) g2)
          exact this
    have Bq : ∀ (K : Int32 → MM → Option MM) n k e t, k + n = negV G.S.1 p → n < e → kj rLk σ t → mI t 85 58 = nI (lsB (posV G.S.1) (p + 1)).1 → hasE t 117 (lsB (posV G.S.1) (p + 1)) → hasE t 118 (repL p k (lsB (negV G.S.1) p)) → ∃ t', kj rLk σ t' ∧ mI t' 85 58 = nI (lsB (posV G.S.1) (p + 1)).1 ∧ hasE t' 117 (lsB (posV G.S.1) (p + 1)) ∧ hasE t' 118 (lsB (negV G.S.1) (p + 1)) ∧ l_X6_laysLacks_68 K F 85 (nI p) (netI G.S.1 p) e (nI (repL p k (lsB (negV G.S.1) p)).1) (nI k) t = K (nI (lsB (negV G.S.1) (p + 1)).1) t' := by
      intro K n
      induction n with
      | zero =>
        intro k e t ee he k2 i2 o2 g2
        obtain ⟨e, rfl⟩ : ∃ g, e = g + 1 := ⟨e - 1, by omega⟩
        have ee : k = negV G.S.1 p := by omega
        have p990 := nv990 p hp
        rw [l_X6_laysLacks_68.eq_2, if_neg (fun q => by have := (net_neg b1 b2 (by omega)).mp q; omega)]
        subst ee
        exact ⟨t, k2, i2, o2, g2, rfl⟩
      | succ n ih =>
        intro k e t ee he k2 i2 o2 g2
        obtain ⟨e, rfl⟩ : ∃ g, e = g + 1 := ⟨e - 1, by omega⟩
        have ht := h.s k2 rLk_rSM
        have lt := ht.l
        have p990 := nv990 p hp
        have cn : (repL p k (lsB (negV G.S.1) p)).1 = sm (negV G.S.1) p + k := by rw [repL_n, lsB_n]
        have part := sm_part (v := negV G.S.1) hp (k := k) (by omega)
        have s10 := sn 10 (Nat.le_refl _)
        obtain ⟨C, hC⟩ : ∃ C, repL p k (lsB (negV G.S.1) p) = C := ⟨_, rfl⟩
        have e3 : repL p (k + 1) (lsB (negV G.S.1) p) = addL p C := by rw [← hC]; rfl
        rw [hC] at g2 cn ⊢
        rw [l_X6_laysLacks_68.eq_2, if_pos ((net_neg b1 b2 (by omega)).mpr (by omega))]
        dsimp only [jn]
        by_cases c6 : C.1 < 6
        · rw [if_pos (show nI C.1 < 6 from nI_lt (b := 6) c6 (by decide)), gP_T (T85 lt), Option.bind_some, P85_55 lt, sI_T (by rw [T118 lt]) (by rw [T118 lt]; exact c6) (by rw [T118 lt]; decide), Option.bind_some, nI_1, nI_1]
          have := ih (k + 1) e (wI t 118 C.1 (nI p)) (by omega) (by omega) (k2.trans (kj.w (Or.inr (Or.inl rfl)))) (by rw [mI_wn (by decide), i2]) (hasE_o (by decide) o2) (by rw [e3]; exact hasE_add g2)
          rw [e3] at this
          exact this
        · rw [if_neg (show ¬ nI C.1 < 6 from nI_nlt (b := 6) (by omega) (by omega)), nI_1, nI_1]
          have := ih (k + 1) e t (by omega) (by omega) k2 i2 o2 (by rw [e3]; exact hasE_full g2 (by omega))
          rw [e3] at this
          exact this
    (try dsimp only)
    rw [l_X6_laysLacks_9.eq_2, if_pos (ten_in hp), e_X6_setOffOf hs hp hF, bq_some]
    obtain ⟨t1, a1, a0, a2, a3, a4⟩ := A (fun (σ12 : MM) => l_X6_laysLacks_68 (fun (r1_18 : Int32) (σ17 : MM) => l_X6_laysLacks_9 (fun (σ19 : MM) => some σ19) F 85 f r1_18 ((nI p + 1)) σ17) F 85 (nI p) (netI G.S.1 p) F (nI (lsB (negV G.S.1) p).1) 0 σ12) (nI (lsB (negV G.S.1) p).1) (posV G.S.1 p) 0 F s (by omega) (by have := pv990 p hp; omega) k1 i1 o1 g1
    obtain ⟨t2, c1, c0, c2, c3, c4⟩ := Bq (fun (r1_18 : Int32) (σ17 : MM) => l_X6_laysLacks_9 (fun (σ19 : MM) => some σ19) F 85 f r1_18 ((nI p + 1)) σ17) (negV G.S.1 p) 0 F t1 (by omega) (by have := nv990 p hp; omega) a1 a0 a2 a3
    refine ⟨nI (lsB (negV G.S.1) (p + 1)).1, t2, ⟨c1, rfl, c0, c2, c3⟩, ?_⟩
    refine (show _ = _ from a4).trans ?_
    (try dsimp only)
    refine (show _ = _ from c4).trans ?_
    (try dsimp only)
    rw [nI_1]) (by
    intro f v s _
    (try dsimp only)
    rw [l_X6_laysLacks_9.eq_2, if_neg ten_no]) (f := F) (v := 0) (σ := wI σ 85 58 0) (by omega) ⟨k0, rfl, mI_ws, fun i hi => absurd hi (Nat.not_lt_zero i), fun i hi => absurd hi (Nat.not_lt_zero i)⟩
  refine ⟨s, e1, k1, ?_, o1, g1⟩
  rw [i1, lsB_n]
end EVENL
