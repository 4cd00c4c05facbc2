/-! SOMEBODY GETS THE COIN: the chalk -/
def pushS (ch : List Nat) (p : Nat) : List Nat := if ch.length = 40 then ch.drop 1 ++ [p] else ch ++ [p]
theorem pushS_len {ch : List Nat} {p : Nat} (h : ch.length ≤ 40) : (pushS ch p).length = min 40 (ch.length + 1) := by
  unfold pushS
  by_cases c : ch.length = 40
  · rw [if_pos c, List.length_append, List.length_drop, c]; rfl
  · rw [if_neg c, List.length_append]
    show ch.length + 1 = _
    omega
theorem pushS_get {ch : List Nat} {p k : Nat} (h : ch.length ≤ 40) (hk : k < (pushS ch p).length) : (pushS ch p).getD k 0 = if ch.length = 40 then (if k = 39 then p else ch.getD (k + 1) 0) else (if k = ch.length then p else ch.getD k 0) := by
  rw [pushS_len h] at hk
  unfold pushS
  by_cases c : ch.length = 40
  · rw [if_pos c, if_pos c]
    by_cases e : k = 39
    · subst e
      rw [if_pos rfl, List.getD_eq_getElem?_getD, List.getElem?_append_right (by rw [List.length_drop, c]; decide), List.length_drop, c]
      rfl
    · rw [if_neg e, List.getD_eq_getElem?_getD, List.getElem?_append_left (by rw [List.length_drop, c]; omega), List.getElem?_drop, List.getD_eq_getElem?_getD, Nat.add_comm 1 k]
  · rw [if_neg c, if_neg c]
    by_cases e : k = ch.length
    · subst e
      rw [if_pos rfl, List.getD_eq_getElem?_getD, List.getElem?_append_right (Nat.le_refl _), Nat.sub_self]
      rfl
    · rw [if_neg e, List.getD_eq_getElem?_getD, List.getElem?_append_left (by omega), List.getD_eq_getElem?_getD]
def upQ (q : Nat → Nat) (i v : Nat) : Nat → Nat := fun j => if j = i then v else q j
theorem upQ_s {q : Nat → Nat} {i v : Nat} : upQ q i v i = v := if_pos rfl
theorem upQ_n {q : Nat → Nat} {i v j : Nat} (h : j ≠ i) : upQ q i v j = q j := if_neg h
theorem pv_lt {h : Nat} (hh : h < 10) : pv h = nI h := if_pos hh
theorem qv_lt {h : Nat} (hh : h < 10) : qv h = nI h := if_pos hh
theorem pv_10 : pv 10 = -1 := rfl
theorem qv_10 : qv 10 = -2 := rfl
/-- the duchy when p has got the coin -/
def getS (S : DS) (p : Nat) : DS := (S.1, S.2.1, pushS S.2.2.1 p, upQ (upQ S.2.2.2 0 p) 1 10)
section PUSH
variable {σ : MM} {F D W t Y : Nat} {S : DS}
theorem e_X3_gets {p : Nat} (l : lay σ) (hD : isD D) (hC : CD W σ D S) (hW : W < 1000000) (hlen : S.2.2.1.length ≤ 40) (hp : p < 10) : ∃ σ', g_X3_gets F σ D (nI p) = some σ' ∧ kp (fun x => x = D ∨ x = D + 14) σ σ' ∧ (∀ j, j ≠ 3 → j ≠ 5 → j ≠ 10 → mI σ' D j = mI σ D j) ∧ CD (W + 1) σ' D (getS S p) := by
  obtain ⟨c1, c2, ⟨w, w1, w2, w3, w4⟩, c4, c5, c6, c7, c8, c9, c10⟩ := hC
  unfold g_X3_gets
  have hT := hD.T l
  have hT14 := hD.T14 l
  have hDne : D + 14 ≠ D := by omega
  have h40 : w % 40 < 40 := Nat.mod_lt _ (by decide)
  refine ⟨wI (wI (wI (wI σ D 3 (nI p)) D 5 (-1)) (D + 14) (w % 40) (nI p)) D 10 (nI (w + 1)), ?_, ?_, ?_, ?_⟩
  · have hrm : rm_ (nI w) 40 = some (nI (w % 40)) := rm_nI (b := 40) (by omega) (by decide) (by decide)
    have hT2 : mT (wI (wI σ D 3 (nI p)) D 5 (-1)) D = (2, 16) := hT
    have hT3 : mT (wI (wI (wI σ D 3 (nI p)) D 5 (-1)) (D + 14) (w % 40) (nI p)) D = (2, 16) := hT
    have hs : sI (wI (wI σ D 3 (nI p)) D 5 (-1)) (D + 14) (nI (w % 40)) (nI p) = some (wI (wI (wI σ D 3 (nI p)) D 5 (-1)) (D + 14) (w % 40) (nI p)) := sI_T (by rw [mT_wI, mT_wI, hT14]) (by rw [mT_wI, mT_wI, hT14]; exact h40) (by rw [mT_wI, mT_wI, hT14]; decide)
    rw [if_pos hT, pI_T hT, Option.bind_some, pI_T (show mT (wI σ D 3 (nI p)) D = (2, 16) from hT), Option.bind_some, gP_T hT2, Option.bind_some, mP_wI, mP_wI, hD.P2 l, gI_T hT2, Option.bind_some, mI_wy (by decide), mI_wy (by decide), w2, hrm, Option.bind_some, hs, Option.bind_some, gI_T hT3, Option.bind_some, mI_wn (Ne.symm hDne), mI_wy (by decide), mI_wy (by decide), w2, nI_1, pI_T hT3, Option.bind_some]
  · have k_ : ∀ {s : MM} {a j : Nat} {v : Int32}, (a = D ∨ a = D + 14) → kp (fun x => x = D ∨ x = D + 14) σ s → kp (fun x => x = D ∨ x = D + 14) σ (wI s a j v) := fun ha h => h.trans (kp.w ha)
    exact k_ (Or.inl rfl) (k_ (Or.inr rfl) (k_ (Or.inl rfl) (k_ (Or.inl rfl) kp.refl)))
  · intro j j3 j5 j10
    rw [mI_wy j10, mI_wn (Ne.symm hDne), mI_wy j5, mI_wy j3]
  · have fj : ∀ j, j ≠ 3 → j ≠ 5 → j ≠ 10 → mI (wI (wI (wI (wI σ D 3 (nI p)) D 5 (-1)) (D + 14) (w % 40) (nI p)) D 10 (nI (w + 1))) D j = mI σ D j := fun j j3 j5 j10 => by rw [mI_wy j10, mI_wn (Ne.symm hDne), mI_wy j5, mI_wy j3]
    have fo : ∀ x, x ≠ D → x ≠ D + 14 → mI (wI (wI (wI (wI σ D 3 (nI p)) D 5 (-1)) (D + 14) (w % 40) (nI p)) D 10 (nI (w + 1))) x = mI σ x := fun x x1 x2 => by rw [mI_wn x1, mI_wn x2, mI_wn x1, mI_wn x1]
    have fc : ∀ k, mI (wI (wI (wI (wI σ D 3 (nI p)) D 5 (-1)) (D + 14) (w % 40) (nI p)) D 10 (nI (w + 1))) (D + 14) k = if k = w % 40 then nI p else mI σ (D + 14) k := fun k => by
      rw [mI_wn hDne]
      by_cases c : k = w % 40
      · rw [if_pos c, c, mI_ws]
      · rw [if_neg c, mI_wy c, mI_wn hDne, mI_wn hDne]
    refine ⟨fun a ha b hb => ?_, fun q hq => ?_, ⟨w + 1, by omega, mI_ws, ?_, fun k hk => ?_⟩, ?_, ?_, fun q => absurd q (by show ¬ 10 < 10; decide), ?_, ?_, ?_, ?_⟩
    · rw [fo _ (by omega) (by omega)]; exact c1 a ha b hb
    · rw [fo _ (by omega) (by omega)]; exact c2 q hq
    · show (pushS S.2.2.1 p).length = _
      rw [pushS_len hlen]; omega
    · have hk9 : k < (pushS S.2.2.1 p).length := hk
      show mI _ (D + 14) ((w + 1 - (pushS S.2.2.1 p).length + k) % 40) = nI ((pushS S.2.2.1 p).getD k 0)
      rw [pushS_get hlen hk9, fc]
      rw [pushS_len hlen] at hk9 ⊢
      by_cases c : S.2.2.1.length = 40
      · rw [if_pos c, c]
        have e1 : w + 1 - min 40 (40 + 1) + k = w - 40 + (k + 1) := by omega
        rw [e1]
        by_cases e : k = 39
        · subst e
          rw [if_pos rfl, if_pos (by omega)]
        · rw [if_neg e, if_neg (by omega)]
          have := w4 (k + 1) (by omega)
          rw [c] at this
          exact this
      · rw [if_neg c]
        have e0 : S.2.2.1.length = w := by omega
        have e1 : w + 1 - min 40 (S.2.2.1.length + 1) + k = k := by omega
        rw [e1]
        by_cases e : k = S.2.2.1.length
        · rw [if_pos e, if_pos (by omega)]
        · rw [if_neg e, if_neg (by omega)]
          have := w4 k (by omega)
          rw [show w - S.2.2.1.length + k = k from by omega] at this
          exact this
    · show _ = pv (upQ (upQ S.2.2.2 0 p) 1 10 0)
      rw [upQ_n (by decide), upQ_s, pv_lt hp, mI_wy (by decide), mI_wn (Ne.symm hDne), mI_wy (by decide), mI_ws]
    · show _ = pv (upQ (upQ S.2.2.2 0 p) 1 10 1)
      rw [upQ_s, pv_10, mI_wy (by decide), mI_wn (Ne.symm hDne), mI_ws]
    · rw [fj 7 (by decide) (by decide) (by decide)]; exact c7
    · rw [fj 8 (by decide) (by decide) (by decide)]; exact c8
    · rw [fj 14 (by decide) (by decide) (by decide)]; exact c9
    · rw [fj 9 (by decide) (by decide) (by decide)]; exact c10
end PUSH
