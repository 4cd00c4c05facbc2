/-! THE MODEL'S DUCHY when p has got the coin -/
section GETM
variable {σ : MM} {F t Y : Nat} {S : DS}
theorem e_M_gets {p : Nat} (l : lay σ) (hM : MD σ 86 S) (hlen : S.2.2.1.length ≤ 40) (hp : p < 10) (hF : 100 < F) : ∃ σ1 σ', g_X6_rests F σ 85 (nI p) = some σ1 ∧ g_X6_chalks F σ1 85 (nI p) = some σ' ∧ kp (fun x => x = 86) σ σ' ∧ MD σ' 86 (getS S p) := by
  obtain ⟨m1, m2, ⟨m3, m4⟩, m5, m6, m7, m8, m9, m10, m11, m12⟩ := hM
  have l1 : lay (wI (wI (wI σ 86 151 (nI p)) 86 153 (-2)) 86 154 0) := l
  have k1 : kp (fun x => x = 86) σ (wI (wI (wI σ 86 151 (nI p)) 86 153 (-2)) 86 154 0) := (kp.w (S := fun x => x = 86) rfl).trans ((kp.w (S := fun x => x = 86) rfl).trans (kp.w (S := fun x => x = 86) rfl))
  have fj : ∀ j, j ≠ 151 → j ≠ 153 → j ≠ 154 → mI (wI (wI (wI σ 86 151 (nI p)) 86 153 (-2)) 86 154 0) 86 j = mI σ 86 j := fun j a b c => by rw [mI_wy c, mI_wy b, mI_wy a]
  have f151 : mI (wI (wI (wI σ 86 151 (nI p)) 86 153 (-2)) 86 154 0) 86 151 = nI p := by rw [mI_wy (by decide), mI_wy (by decide), mI_ws]
  have f153 : mI (wI (wI (wI σ 86 151 (nI p)) 86 153 (-2)) 86 154 0) 86 153 = -2 := by rw [mI_wy (by decide), mI_ws]
  have f154 : mI (wI (wI (wI σ 86 151 (nI p)) 86 153 (-2)) 86 154 0) 86 154 = 0 := mI_ws
  obtain ⟨σ', e, k2, h1, h2, h3⟩ := e_X6_chalks (p := p) (ch := S.2.2.1) l1 hF hlen (by rw [fj 150 (by decide) (by decide) (by decide)]; exact m3) (fun k hk => by rw [fj (110 + k) (by omega) (by omega) (by omega)]; exact m4 k hk)
  refine ⟨_, σ', e_X6_rests l, e, k1.trans k2, ?_⟩
  have g : ∀ j, j < 110 ∨ 154 < j → mI σ' 86 j = mI σ 86 j := fun j hj => by rw [h1 j (by omega), fj j (by omega) (by omega) (by omega)]
  refine ⟨fun a ha b hb => ?_, fun q hq => ?_, ⟨h2, h3⟩, ?_, ?_, fun q => absurd q (by show ¬ 10 < 10; decide), ?_, ?_, ?_, ?_, ?_⟩
  · rw [g _ (by omega)]; exact m1 a ha b hb
  · rw [g _ (by omega)]; exact m2 q hq
  · show _ = qv (upQ (upQ S.2.2.2 0 p) 1 10 0)
    rw [upQ_n (by decide), upQ_s, qv_lt hp, h1 151 (by decide), f151]
  · show _ = qv (upQ (upQ S.2.2.2 0 p) 1 10 1)
    rw [upQ_s, qv_10, h1 153 (by decide), f153]
  · rw [h1 154 (by decide), f154]; rfl
  · rw [g 155 (by decide)]; exact m9
  · rw [g 156 (by decide)]; exact m10
  · rw [g 157 (by decide)]; exact m11
  · rw [g 158 (by decide)]; exact m12
end GETM
