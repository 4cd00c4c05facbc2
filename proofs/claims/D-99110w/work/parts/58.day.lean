/-! ONE IS PAID; A DAY BEGINS -/
def payS (S : DS) (a b : Nat) : DS := getS (setd S a b (S.1 a b - 1)) b
theorem jm1 {d : Nat} (h : d < 2147483648) : jmax 0 (nI d - 1) = nI (d - 1) := by
  cases d with
  | zero => rfl
  | succ n => rw [nI_pred, show (0 : Int32) = nI 0 from rfl, jmax_nI (by decide) (by omega), Nat.zero_max]; rfl
theorem DW.sd {t Y a b v : Nat} {S : DS} (h : DW t Y S) (hv : v ≤ 99) (h0 : v ≠ 0 → S.1 a b ≠ 0) : DW t Y (setd S a b v) := by
  obtain ⟨d1, d2⟩ := h
  refine ⟨fun x hx y hy => ?_, d2⟩
  show (if x = a ∧ y = b then v else S.1 x y) ≤ 99 ∧ ((if x = a ∧ y = b then v else S.1 x y) ≠ 0 → _)
  by_cases c : x = a ∧ y = b
  · rw [if_pos c]
    refine ⟨hv, fun q => ?_⟩
    obtain ⟨rfl, rfl⟩ := c
    exact (d1 x hx y hy).2 (h0 q)
  · rw [if_neg c]; exact d1 x hx y hy
theorem pushS_lt {ch : List Nat} {p : Nat} (hl : ch.length ≤ 40) (hp : p < 10) (h : ∀ k, k < ch.length → ch.getD k 0 < 10) : ∀ k, k < (pushS ch p).length → (pushS ch p).getD k 0 < 10 := by
  intro k hk
  rw [pushS_get hl hk]
  rw [pushS_len hl] at hk
  by_cases c : ch.length = 40
  · rw [if_pos c]
    by_cases e : k = 39
    · rw [if_pos e]; exact hp
    · rw [if_neg e]; exact h _ (by omega)
  · rw [if_neg c]
    by_cases e : k = ch.length
    · rw [if_pos e]; exact hp
    · rw [if_neg e]; exact h _ (by omega)
theorem DW.get {t Y p : Nat} {S : DS} (h : DW t Y S) (hp : p < 10) (ht : t.testBit p = true) : DW t Y (getS S p) := by
  obtain ⟨d1, d2, d3, d4, d5, d6, d7, d8, d9, d10, d11⟩ := h
  refine ⟨d1, ?_, ?_, ?_, fun q => ?_, fun q => ht, d7, d8, d9, d10, ?_⟩
  · show (pushS S.2.2.1 p).length ≤ 40
    rw [pushS_len d2]; omega
  · show p ≤ 10; omega
  · show 10 ≤ 10; decide
  · have q : 10 < 10 := q
    exact absurd q (by decide)
  · exact pushS_lt d2 hp d11
theorem DW.pay {t Y a b : Nat} {S : DS} (h : DW t Y S) (hb : b < 10) (ht : t.testBit b = true) (h99 : S.1 a b ≤ 99) : DW t Y (payS S a b) :=
  (h.sd (by omega) (fun q => by omega)).get hb ht
section PAY
variable {σ : MM} {F D W t Y : Nat} {S : DS} {xs ys : Nat → Nat} {L : LW}
def rD1 (D j x y : Nat) : Prop := rD D x y ∨ (x = D ∧ y = j)
theorem rD1_rC {D j : Nat} (hD : isD D) (x y : Nat) (h : rD1 D j x y) : rC x y := by
  unfold rD1 rD at h
  unfold rC
  unfold isD at hD
  omega
/-- the row of the debts of one -/
theorem rowP {a : Nat} (l : lay σ) (hD : isD D) (ha : a < 10) : aP σ (D + 2) 22 (nI a) = some (D + 3 + a) := by
  obtain ⟨t1, p1, t2, hr⟩ := hD.B l
  rw [show D + 2 = D + 1 + 1 from rfl, aP_T (by rw [t2]) (by rw [t2]; exact ha) (by rw [t2]; decide), (hr a ha).1]
theorem rowT {a : Nat} (l : lay σ) (hD : isD D) (ha : a < 10) : mT σ (D + 3 + a) = (20, 10) := ((hD.B l).2.2.2 a ha).2
theorem rowI {a b : Nat} (l : lay σ) (hD : isD D) (ha : a < 10) (hb : b < 10) : aI σ (D + 3 + a) 20 (nI b) = some (mI σ (D + 3 + a) b) := by
  have h := rowT l hD ha
  exact aI_T (by rw [h]) (by rw [h]; exact hb) (by rw [h]; decide)
theorem rowS {a b : Nat} {v : Int32} (l : lay σ) (hD : isD D) (ha : a < 10) (hb : b < 10) : sI σ (D + 3 + a) (nI b) v = some (wI σ (D + 3 + a) b v) := by
  have h := rowT l hD ha
  exact sI_T (by rw [h]) (by rw [h]; exact hb) (by rw [h]; decide)
theorem dbP (l : lay σ) (hD : isD D) : gP σ D 2 16 0 = some (D + 1) := by rw [gP_T (hD.T l), hD.P0 l]
theorem dbO (l : lay σ) (hD : isD D) : gP σ (D + 1) 3 1 0 = some (D + 2) := by
  obtain ⟨t1, p1, t2, hr⟩ := hD.B l
  rw [gP_T t1, p1]
theorem getsJ {σ σ' : MM} (h1 : kp (fun x => x = D ∨ x = D + 14) σ σ') (h2 : ∀ j, j ≠ 3 → j ≠ 5 → j ≠ 10 → mI σ' D j = mI σ D j) : kj (rD D) σ σ' := ⟨h1.1, fun x y hx => by
  unfold rD at hx
  by_cases c : x = D
  · subst c
    exact h2 y (by omega) (by omega) (by omega)
  · exact congrFun (h1.2 x (fun q => by have q : x = D ∨ x = D + 14 := q; omega)) y⟩
theorem e_X3_arrives (l : lay σ) (hD : isD D) (hC : CD W σ D S) (hW : W < 1000000) (hw : ∀ a, a < 10 → ∀ b, b < 10 → S.1 a b ≤ 99) (hlen : S.2.2.1.length ≤ 40) (hb : S.2.2.2 1 < 10) (ha : S.2.2.2 2 < 10) : ∃ σ', g_X3_arrives F σ D = some σ' ∧ kj (rD1 D 11) σ σ' ∧ mI σ' D 11 = mI σ D 11 + 1 ∧ CD (W + 1) σ' D (payS S (S.2.2.2 2) (S.2.2.2 1)) := by
  obtain ⟨a, hae⟩ : ∃ a, S.2.2.2 2 = a := ⟨_, rfl⟩
  obtain ⟨b, hbe⟩ : ∃ b, S.2.2.2 1 = b := ⟨_, rfl⟩
  rw [hae] at ha ⊢
  rw [hbe] at hb ⊢
  have h4 : mI σ D 4 = nI a := by rw [(hC.2.2.2.2.2.1 (by rw [hbe]; exact hb)).1, hae]
  have h5 : mI σ D 5 = nI b := by rw [hC.2.2.2.2.1, hbe, pv_lt hb]
  have hd : mI σ (D + 3 + a) b = nI (S.1 a b) := hC.1 a ha b hb
  have h99 := hw a ha b hb
  have C1 := hC.sd ha hb (v := S.1 a b - 1)
  have l1 : lay (wI σ (D + 3 + a) b (nI (S.1 a b - 1))) := l
  have e11 : mI (wI σ (D + 3 + a) b (nI (S.1 a b - 1))) D 11 = mI σ D 11 := by rw [mI_wn (by omega)]
  have e5 : mI (wI (wI σ (D + 3 + a) b (nI (S.1 a b - 1))) D 11 (mI σ D 11 + 1)) D 5 = nI b := by rw [mI_wy (by decide), mI_wn (by omega), h5]
  have k2 : kj (rD1 D 11) σ (wI (wI σ (D + 3 + a) b (nI (S.1 a b - 1))) D 11 (mI σ D 11 + 1)) := (kj.w (Or.inl (Or.inr (Or.inr ⟨by omega, by omega⟩)))).trans (kj.w (Or.inr ⟨rfl, rfl⟩))
  have C2 : CD W (wI (wI σ (D + 3 + a) b (nI (S.1 a b - 1))) D 11 (mI σ D 11 + 1)) D (setd S a b (S.1 a b - 1)) := C1.j (kj.w (R := fun x y => x = D ∧ y = 11) ⟨rfl, rfl⟩) (fun x y q => by have q : x = D ∧ y = 11 := q; omega)
  have l2 := k2.ly l
  obtain ⟨s, e3, k3, f3, C3⟩ := e_X3_gets (F := F) (p := b) l2 hD C2 hW hlen hb
  unfold g_X3_arrives
  rw [if_pos (hD.T l)]
  simp only [Option.bind_some, h4, h5, hd, dbP l hD, dbO l hD, rowP l hD ha, rowI l hD ha hb, gI_T (hD.T l)]
  rw [jm1 (by omega), rowS l hD ha hb, Option.bind_some, gI_T (hD.T l1), Option.bind_some, e11, pI_T (hD.T l1), Option.bind_some, gI_T (hD.T l2), Option.bind_some, e5, e3, Option.bind_some]
  refine ⟨s, rfl, k2.trans ((getsJ k3 f3).mono (fun x y q => Or.inl q)), ?_, C3⟩
  rw [f3 11 (by decide) (by decide) (by decide), mI_ws]
theorem e_X6_pays {a b : Nat} (l : lay σ) (hM : MD σ 86 S) (h99 : S.1 a b ≤ 99) (hlen : S.2.2.1.length ≤ 40) (ha : a < 10) (hb : b < 10) (hF : 100000 ≤ F) : ∃ σ', g_X6_pays F σ 85 (nI a) (nI b) = some σ' ∧ kp (fun x => x = 86) σ σ' ∧ MD σ' 86 (payS S a b) := by
  have M1 := hM.sd ha hb (v := S.1 a b - 1)
  have l1 : lay (wI σ 86 (10 * a + b) (nI (S.1 a b - 1))) := l
  obtain ⟨s1, s2, e1, e2, k2, M2⟩ := e_M_gets (F := F) (p := b) l1 M1 hlen hb (by omega)
  have em : g_X6_max F σ 0 (nI (S.1 a b) - 1) = some (nI (S.1 a b - 1), σ) := by
    unfold g_X6_max
    cases hd : S.1 a b with
    | zero => rfl
    | succ n =>
      rw [hd] at h99
      rw [nI_pred]
      rw [if_neg (nI_pos (n := n) (by omega))]
      rfl
  have ei : (0 : Int32) + 10 * nI a + nI b = nI (10 * a + b) := by
    rw [show (10 : Int32) = nI 10 from rfl, nI_mul, show (0 : Int32) = nI 0 from rfl, nI_add, nI_add, Nat.zero_add]
  unfold g_X6_pays
  rw [if_pos (T85 l), gN l, Option.bind_some, e_X6_debtOf l hM.1 ha hb, bq_some, em, bq_some, ei, sN l (by omega), Option.bind_some, e1, Option.bind_some, e2, Option.bind_some]
  exact ⟨s2, rfl, (kp.w (S := fun x => x = 86) rfl).trans k2, M2⟩
/-- a draw -/
def lotS (x : Nat) : Nat := (25173 * x + 13849) % 65536
theorem lotS_lt (x : Nat) : lotS x < 65536 := Nat.mod_lt _ (by decide)
theorem lot_rm {x : Nat} (hx : x < 65536) : rm_ (25173 * nI x + 13849) 65536 = some (nI (lotS x)) := by
  rw [show (25173 : Int32) = nI 25173 from rfl, show (13849 : Int32) = nI 13849 from rfl, nI_mul, nI_add]
  exact rm_nI (b := 65536) (by omega) (by decide) (by decide)
theorem e_X3_draw (l : lay σ) (hD : isD D) {x : Nat} (hx : x < 65536) (h9 : mI σ D 9 = nI x) : g_X3_draw F σ D = some (nI (lotS x % 10), wI σ D 9 (nI (lotS x))) := by
  have := lotS_lt x
  have l1 : lay (wI σ D 9 (nI (lotS x))) := l
  unfold g_X3_draw
  rw [if_pos (hD.T l), gI_T (hD.T l), Option.bind_some, h9, lot_rm hx, Option.bind_some, pI_T (hD.T l), Option.bind_some, gI_T (hD.T l1), Option.bind_some, mI_ws, show rm_ (nI (lotS x)) 10 = some (nI (lotS x % 10)) from rm_nI (b := 10) (by omega) (by decide) (by decide), Option.bind_some]
end PAY
/-! growth -/
section GROW
variable (L : LW) (xs ys : Nat → Nat)
def growV (S : DS) (a b : Nat) : Nat := min 99 (S.1 a b + heldN (tellsS L 105 (fx2 S xs ys a b)) 9)
def gst (a b : Nat) (s : DS × Int32) : DS × Int32 := if s.1.1 a b = 0 then s else (setd s.1 a b (growV L xs ys s.1 a b), s.2 + (nI (growV L xs ys s.1 a b) - nI (s.1.1 a b)))
def gin (a : Nat) : Nat → DS × Int32 → DS × Int32
  | 0, s => s
  | n + 1, s => gst L xs ys a n (gin a n s)
def gout : Nat → DS × Int32 → DS × Int32
  | 0, s => s
  | n + 1, s => gin L xs ys n 10 (gout n s)
theorem gout_s {n : Nat} {s : DS × Int32} : gout L xs ys (n + 1) s = gin L xs ys n 10 (gout L xs ys n s) := rfl
theorem gst_W {t Y a b : Nat} {s : DS × Int32} (h : DW t Y s.1) : DW t Y (gst L xs ys a b s).1 := by
  unfold gst
  by_cases c : s.1.1 a b = 0
  · rw [if_pos c]; exact h
  · rw [if_neg c]
    exact h.sd (by unfold growV; omega) (fun _ => c)
theorem gin_W {t Y a : Nat} {s : DS × Int32} (h : DW t Y s.1) : ∀ n, DW t Y (gin L xs ys a n s).1
  | 0 => h
  | n + 1 => gst_W L xs ys (gin_W h n)
theorem gout_W {t Y : Nat} {s : DS × Int32} (h : DW t Y s.1) : ∀ n, DW t Y (gout L xs ys n s).1
  | 0 => h
  | n + 1 => by
    rw [gout_s]
    exact gin_W L xs ys (gout_W h n) 10
theorem gst_q {a b : Nat} {s : DS × Int32} : (gst L xs ys a b s).1.2.2.2 = s.1.2.2.2 := by
  unfold gst
  by_cases c : s.1.1 a b = 0
  · rw [if_pos c]
  · rw [if_neg c]; rfl
theorem gin_q {a : Nat} {s : DS × Int32} : ∀ n, (gin L xs ys a n s).1.2.2.2 = s.1.2.2.2
  | 0 => rfl
  | n + 1 => (gst_q L xs ys).trans (gin_q n)
theorem gout_q {s : DS × Int32} : ∀ n, (gout L xs ys n s).1.2.2.2 = s.1.2.2.2
  | 0 => rfl
  | n + 1 => by
    rw [gout_s, gin_q, gout_q n]
end GROW
section GROW2
variable {σ : MM} {F D W t Y : Nat} {xs ys : Nat → Nat} {L : LW}
theorem grow_step {a b f : Nat} {s : DS × Int32} (K : MM → Option MM) (hK : CK σ L t xs ys) (hD : isD D) (hC : CD W σ D s.1) (hg : mI σ D 13 = s.2) (hW : W < 1000000) (hw : DW t Y s.1) (ha : a < 10) (hb : b < 10) (hF : 100000 ≤ F) : ∃ σ', kj (rD1 D 13) σ σ' ∧ CD W σ' D (gst L xs ys a b s).1 ∧ mI σ' D 13 = (gst L xs ys a b s).2 ∧ l_X3_dayBegins_72 K F D (nI a) (f + 1) (nI b) σ = l_X3_dayBegins_72 K F D (nI a) f (nI (b + 1)) σ' := by
  have l := hK.1
  have h99 := (hw.1 a ha b hb).1
  have hd : mI σ (D + 3 + a) b = nI (s.1.1 a b) := hC.1 a ha b hb
  rw [l_X3_dayBegins_72.eq_2, if_pos (ten_in hb), dbP l hD, Option.bind_some, dbO l hD, Option.bind_some, rowP l hD ha, Option.bind_some, rowI l hD ha hb, Option.bind_some, hd]
  unfold gst
  by_cases c : s.1.1 a b = 0
  · rw [if_pos c, if_pos (by rw [c]; rfl), nI_1]
    exact ⟨σ, kj.refl, hC, hg, rfl⟩
  · rw [if_neg c, if_neg (nI_ne0 (by omega) (by omega))]
    simp only [Option.bind_some, dbO l hD, rowP l hD ha, gP_T (hD.T l), gP_T (T1 l), hD.P15 l, P1_3 l, hD.P0 l]
    obtain ⟨s1, e1, k1, f1⟩ := e_X2_of (F := F) l hD hC (by omega) hw hK.2.2 ha hb hF
    have k1j := k1.j (R := rD1 D 13) (fun x y q => Or.inl (Or.inl q))
    have K1 := hK.j k1j (rD1_rC hD)
    obtain ⟨s2, k2, e2⟩ := e_X2_tells (F := F) (c := 105) (most := 9) (by decide) K1.2.1 hF (kt.refl K1.1) rfl
    have k2j := k2.1.j (R := rD1 D 13) (fun x y q => Or.inl (Or.inl q))
    have K2 := K1.j k2j (rD1_rC hD)
    have l2 := K2.1
    have C1 := hC.keep (fun a q => k1.2 a (hD.ne4 q))
    have C2 := C1.keep (fun a q => k2.1.2 a (hD.ne4 q))
    have hn := heldN_eq (v := tellsS L 105 (fx2 s.1 xs ys a b)) (m := 9) (by decide)
    have ev : jmin 99 (nI (s.1.1 a b) + nI (heldN (tellsS L 105 (fx2 s.1 xs ys a b)) 9)) = nI (growV L xs ys s.1 a b) := by
      rw [nI_add, show (99 : Int32) = nI 99 from rfl, jmin_nI (by decide) (by omega)]; rfl
    rw [e1, bq_some, e2, bq_some, f1, show (9 : Int32) = nI 9 from rfl, hn.1, ev, rowS l2 hD ha hb, Option.bind_some]
    have k3 : kj (rD1 D 13) s2 (wI s2 (D + 3 + a) b (nI (growV L xs ys s.1 a b))) := kj.w (Or.inl (Or.inr (Or.inr ⟨by omega, by omega⟩)))
    have l3 := k3.ly l2
    have C3 := C2.sd ha hb (v := growV L xs ys s.1 a b)
    have g3 : mI (wI s2 (D + 3 + a) b (nI (growV L xs ys s.1 a b))) D 13 = s.2 := by
      rw [mI_wn (by omega), k2.1.2 D (fun q => hD.ne4 (Or.inl rfl) q), k1.2 D (fun q => hD.ne4 (Or.inl rfl) q), hg]
    rw [gI_T (hD.T l3), Option.bind_some, g3, dbP l3 hD, Option.bind_some, dbO l3 hD, Option.bind_some, rowP l3 hD ha, Option.bind_some, rowI l3 hD ha hb, Option.bind_some, mI_ws, pI_T (hD.T l3), Option.bind_some, nI_1]
    exact ⟨_, ((k1j.trans k2j).trans k3).trans (kj.w (Or.inr ⟨rfl, rfl⟩)), C3.j (kj.w (R := fun x y => x = D ∧ y = 13) ⟨rfl, rfl⟩) (fun x y q => by have q : x = D ∧ y = 13 := q; omega), mI_ws, rfl⟩
theorem grow_C {s : DS × Int32} (hK : CK σ L t xs ys) (hD : isD D) (hC : CD W σ D s.1) (hg : mI σ D 13 = s.2) (hW : W < 1000000) (hw : DW t Y s.1) (hF : 100000 ≤ F) (E : MM → Option MM) : ∃ σ', kj (rD1 D 13) σ σ' ∧ CD W σ' D (gout L xs ys 10 s).1 ∧ mI σ' D 13 = (gout L xs ys 10 s).2 ∧ l_X3_dayBegins_64 E F D F 0 σ = E σ' := by
  obtain ⟨σ', ⟨h1, h2, h3⟩, he⟩ := yl1 (l_X3_dayBegins_64 E F D) E (fun i s' => kj (rD1 D 13) σ s' ∧ CD W s' D (gout L xs ys i s).1 ∧ mI s' D 13 = (gout L xs ys i s).2) 10 (by
    intro f i s1 hi ⟨h1, h2, h3⟩
    rw [l_X3_dayBegins_64.eq_2, if_pos (ten_in hi)]
    obtain ⟨s2, ⟨j1, j2, j3⟩, he⟩ := yl1 (l_X3_dayBegins_72 (fun (σ43 : MM) => l_X3_dayBegins_64 E F D f ((nI i + 1)) σ43) F D (nI i)) (fun (σ43 : MM) => l_X3_dayBegins_64 E F D f ((nI i + 1)) σ43) (fun b s' => kj (rD1 D 13) σ s' ∧ CD W s' D (gin L xs ys i b (gout L xs ys i s)).1 ∧ mI s' D 13 = (gin L xs ys i b (gout L xs ys i s)).2) 10 (by
      intro g b s2 hb ⟨j1, j2, j3⟩
      obtain ⟨s3, u1, u2, u3, u4⟩ := grow_step (f := g) (fun (σ43 : MM) => l_X3_dayBegins_64 E F D f ((nI i + 1)) σ43) (hK.j j1 (rD1_rC hD)) hD j2 j3 hW (gin_W L xs ys (gout_W L xs ys hw i) b) hi hb hF
      exact ⟨s3, ⟨j1.trans u1, u2, u3⟩, u4⟩) (by
      intro g s2 _
      rw [l_X3_dayBegins_72.eq_2, if_neg ten_no]) (f := F) (by omega) ⟨h1, h2, h3⟩
    exact ⟨s2, ⟨j1, j2, j3⟩, he.trans (by rw [nI_1])⟩) (by
    intro f s1 _
    rw [l_X3_dayBegins_64.eq_2, if_neg ten_no]) (f := F) (by omega) ⟨kj.refl, hC, hg⟩
  exact ⟨σ', h1, h2, h3, he⟩
/-! the model's -/
def rN1 (j x y : Nat) : Prop := rN x y ∨ (x = 85 ∧ y = j)
theorem rN1_rM {j : Nat} (hj : j ≠ 5 ∧ j ≠ 16) (x y : Nat) (h : rN1 j x y) : rM x y := by
  unfold rN1 rN at h
  unfold rM
  omega
theorem grow_stepM {a b f : Nat} {s : DS × Int32} (K : MM → Option MM) (hK : MK σ L t xs ys) (hM : MD σ 86 s.1) (hg : mI σ 85 34 = s.2) (hw : DW t Y s.1) (ha : a < 10) (hb : b < 10) (hF : 100000 ≤ F) : ∃ σ', kj (rN1 34) σ σ' ∧ MD σ' 86 (gst L xs ys a b s).1 ∧ mI σ' 85 34 = (gst L xs ys a b s).2 ∧ l_X6_dayBegins_86 K F 85 (nI a) (f + 1) (nI b) σ = l_X6_dayBegins_86 K F 85 (nI a) f (nI (b + 1)) σ' := by
  have l := hK.1
  have h99 := (hw.1 a ha b hb).1
  rw [l_X6_dayBegins_86.eq_2, if_pos (ten_in hb), e_X6_debtOf l hM.1 ha hb, bq_some]
  unfold gst
  by_cases c : s.1.1 a b = 0
  · rw [if_pos c, if_pos (by rw [c]; rfl), nI_1]
    exact ⟨σ, kj.refl, hM, hg, rfl⟩
  · rw [if_neg c, if_neg (nI_ne0 (by omega) (by omega))]
    obtain ⟨s1, k1, e1, f1⟩ := e_X6_feelsTwo (F := F) l hM hw hK.2.2 ha hb hF
    have k1j := k1.j (R := rN1 34) (fun x y q => Or.inl (Or.inr (Or.inr q)))
    have K1 := hK.j k1j (rN1_rM (by decide))
    have M1 := hM.keep (k1.2 86 (by decide))
    obtain ⟨s2, k2, e2⟩ := e_X6_byLaw (F := F) (c := 105) (most := 9) (by decide) (by decide) K1.2.1 hF (kcod.refl K1.1)
    have k2j := k2.j (R := rN1 34) (fun x y q => Or.inl (Or.inr (Or.inl q)))
    have K2 := K1.j k2j (rN1_rM (by decide))
    have M2 := M1.keep (k2.2 86 (by decide))
    have l2 := K2.1
    have hn := heldN_eq (v := tellsS L 105 (fx2 s.1 xs ys a b)) (m := 9) (by decide)
    have ev : g_X6_min F s2 99 (nI (s.1.1 a b) + nI (heldN (tellsS L 105 (fx2 s.1 xs ys a b)) 9)) = some (nI (growV L xs ys s.1 a b), s2) := by
      rw [nI_add, show (99 : Int32) = nI 99 from rfl, e_minM (by decide) (by omega)]; rfl
    have g2 : mI s2 85 34 = s.2 := by rw [k2.2 85 (by decide), k1.2 85 (by decide), hg]
    have k3 : kj (rN1 34) s2 (wI s2 85 34 (s.2 + nI (growV L xs ys s.1 a b) - nI (s.1.1 a b))) := kj.w (Or.inr ⟨rfl, rfl⟩)
    have l3 := k3.ly l2
    have M3 : MD (wI s2 85 34 (s.2 + nI (growV L xs ys s.1 a b) - nI (s.1.1 a b))) 86 s.1 := M2.keep (mI_wn (by decide))
    have ei : (0 : Int32) + 10 * nI a + nI b = nI (10 * a + b) := by
      rw [show (10 : Int32) = nI 10 from rfl, nI_mul, show (0 : Int32) = nI 0 from rfl, nI_add, nI_add, Nat.zero_add]
    rw [e1, Option.bind_some, e_X6_debtOf K1.1 M1.1 ha hb, bq_some, e2, bq_some, f1, show (9 : Int32) = nI 9 from rfl, hn.1, ev, bq_some, gI_T (T85 l2), Option.bind_some, g2, e_X6_debtOf l2 M2.1 ha hb, bq_some, pI_T (T85 l2), Option.bind_some, gN l3, Option.bind_some, ei, sN l3 (by omega), Option.bind_some, nI_1]
    refine ⟨_, ((k1j.trans k2j).trans k3).trans (kj.w (Or.inl (Or.inl rfl))), M3.sd ha hb, ?_, rfl⟩
    rw [mI_wn (by decide), mI_ws]
    (try dsimp only)
    rw [Int32.sub_eq_add_neg, Int32.sub_eq_add_neg, Int32.add_assoc]
theorem grow_M {s : DS × Int32} (hK : MK σ L t xs ys) (hM : MD σ 86 s.1) (hg : mI σ 85 34 = s.2) (hw : DW t Y s.1) (hF : 100000 ≤ F) (E : MM → Option MM) : ∃ σ', kj (rN1 34) σ σ' ∧ MD σ' 86 (gout L xs ys 10 s).1 ∧ mI σ' 85 34 = (gout L xs ys 10 s).2 ∧ l_X6_dayBegins_78 E F 85 F 0 σ = E σ' := by
  obtain ⟨σ', ⟨h1, h2, h3⟩, he⟩ := yl1 (l_X6_dayBegins_78 E F 85) E (fun i s' => kj (rN1 34) σ s' ∧ MD s' 86 (gout L xs ys i s).1 ∧ mI s' 85 34 = (gout L xs ys i s).2) 10 (by
    intro f i s1 hi ⟨h1, h2, h3⟩
    rw [l_X6_dayBegins_78.eq_2, if_pos (ten_in hi)]
    obtain ⟨s2, ⟨j1, j2, j3⟩, he⟩ := yl1 (l_X6_dayBegins_86 (fun (σ43 : MM) => l_X6_dayBegins_78 E F 85 f ((nI i + 1)) σ43) F 85 (nI i)) (fun (σ43 : MM) => l_X6_dayBegins_78 E F 85 f ((nI i + 1)) σ43) (fun b s' => kj (rN1 34) σ s' ∧ MD s' 86 (gin L xs ys i b (gout L xs ys i s)).1 ∧ mI s' 85 34 = (gin L xs ys i b (gout L xs ys i s)).2) 10 (by
      intro g b s2 hb ⟨j1, j2, j3⟩
      obtain ⟨s3, u1, u2, u3, u4⟩ := grow_stepM (f := g) (fun (σ43 : MM) => l_X6_dayBegins_78 E F 85 f ((nI i + 1)) σ43) (hK.j j1 (rN1_rM (by decide))) j2 j3 (gin_W L xs ys (gout_W L xs ys hw i) b) hi hb hF
      exact ⟨s3, ⟨j1.trans u1, u2, u3⟩, u4⟩) (by
      intro g s2 _
      rw [l_X6_dayBegins_86.eq_2, if_neg ten_no]) (f := F) (by omega) ⟨h1, h2, h3⟩
    exact ⟨s2, ⟨j1, j2, j3⟩, he.trans (by rw [nI_1])⟩) (by
    intro f s1 _
    rw [l_X6_dayBegins_78.eq_2, if_neg ten_no]) (f := F) (by omega) ⟨kj.refl, hM, hg⟩
  exact ⟨σ', h1, h2, h3, he⟩
end GROW2
/-- the counts tell nothing -/
theorem gst_1 {L : LW} {xs ys : Nat → Nat} {a b : Nat} {s s' : DS × Int32} (h : s.1 = s'.1) : (gst L xs ys a b s).1 = (gst L xs ys a b s').1 := by
  unfold gst
  rw [h]
  by_cases c : s'.1.1 a b = 0
  · rw [if_pos c, if_pos c]; exact h
  · rw [if_neg c, if_neg c]
theorem gin_1 {L : LW} {xs ys : Nat → Nat} {a : Nat} {s s' : DS × Int32} (h : s.1 = s'.1) : ∀ n, (gin L xs ys a n s).1 = (gin L xs ys a n s').1
  | 0 => h
  | n + 1 => gst_1 (gin_1 h n)
theorem gout_1 {L : LW} {xs ys : Nat → Nat} {s s' : DS × Int32} (h : s.1 = s'.1) : ∀ n, (gout L xs ys n s).1 = (gout L xs ys n s').1
  | 0 => h
  | n + 1 => by
    rw [gout_s, gout_s]
    exact gin_1 (gout_1 h n) 10
