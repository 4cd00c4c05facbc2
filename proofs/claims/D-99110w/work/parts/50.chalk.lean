/-! THE CHALK, and the model's debts -/
theorem cnt_shift {f : Nat → Bool} : ∀ n, cnt (fun k => f (k + 1)) n + (if f 0 = true then 1 else 0) = cnt f n + (if f n = true then 1 else 0)
  | 0 => rfl
  | n + 1 => by
    have ih := cnt_shift (f := f) n
    show cnt (fun k => f (k + 1)) n + (if f (n + 1) = true then 1 else 0) + (if f 0 = true then 1 else 0) = cnt f n + (if f n = true then 1 else 0) + (if f (n + 1) = true then 1 else 0)
    omega
theorem cnt_rot {p : Nat → Bool} {n : Nat} (hn : 0 < n) : ∀ s, cnt (fun k => p ((s + k) % n)) n = cnt p n
  | 0 => cnt_congr n (fun k hk => by rw [Nat.zero_add, Nat.mod_eq_of_lt hk])
  | s + 1 => by
    have h := cnt_shift (f := fun k => p ((s + k) % n)) n
    have e0 : (s + n) % n = (s + 0) % n := by rw [Nat.add_mod_right, Nat.add_zero]
    (try dsimp only at h)
    rw [e0] at h
    have ih := cnt_rot (p := p) hn s
    have e1 : cnt (fun k => p ((s + 1 + k) % n)) n = cnt (fun k => p ((s + (k + 1)) % n)) n := cnt_congr n (fun k _ => by rw [show s + 1 + k = s + (k + 1) from by omega])
    rw [e1]
    omega
/-- how often it stands in the chalk -/
def chS (ch : List Nat) (p : Nat) : Nat := cnt (fun k => decide (ch.getD k 0 = p)) ch.length
theorem chS_le (ch : List Nat) (p : Nat) : chS ch p ≤ ch.length := cnt_le _
/-- a duchy's cells -/
def isD (D : Nat) : Prop := D = 5 ∨ D = 20 ∨ D = 35
theorem isD.T {D : Nat} {σ : MM} (h : isD D) (l : lay σ) : mT σ D = (2, 16) := by rcases h with h | h | h <;> subst h <;> first | exact T5 l | exact T20 l | exact T35 l
theorem isD.P0 {D : Nat} {σ : MM} (h : isD D) (l : lay σ) : mP σ D 0 = D + 1 := by rcases h with h | h | h <;> subst h <;> first | exact P5_0 l | exact P20_0 l | exact P35_0 l
theorem isD.P1 {D : Nat} {σ : MM} (h : isD D) (l : lay σ) : mP σ D 1 = D + 13 := by rcases h with h | h | h <;> subst h <;> first | exact P5_1 l | exact P20_1 l | exact P35_1 l
theorem isD.P2 {D : Nat} {σ : MM} (h : isD D) (l : lay σ) : mP σ D 2 = D + 14 := by rcases h with h | h | h <;> subst h <;> first | exact P5_2 l | exact P20_2 l | exact P35_2 l
theorem isD.P15 {D : Nat} {σ : MM} (h : isD D) (l : lay σ) : mP σ D 15 = 1 := by rcases h with h | h | h <;> subst h <;> first | exact P5_15 l | exact P20_15 l | exact P35_15 l
theorem isD.T13 {D : Nat} {σ : MM} (h : isD D) (l : lay σ) : mT σ (D + 13) = (20, 10) := by rcases h with h | h | h <;> subst h <;> first | exact T18 l | exact T33 l | exact T48 l
theorem isD.T14 {D : Nat} {σ : MM} (h : isD D) (l : lay σ) : mT σ (D + 14) = (20, 40) := by rcases h with h | h | h <;> subst h <;> first | exact T19 l | exact T34 l | exact T49 l
theorem isD.B {D : Nat} {σ : MM} (h : isD D) (l : lay σ) : isB σ (D + 1) := by rcases h with h | h | h <;> subst h <;> first | exact lay_isB5 l | exact lay_isB20 l | exact lay_isB35 l
section CHALK
variable {σ : MM} {F D W t Y : Nat} {S : DS}
theorem e_X3_rows (l : lay σ) (hD : isD D) (hC : CD W σ D S) (hW : W < 2147483648) : g_X3_rows F σ D = some (nI S.2.2.1.length, σ) := by
  obtain ⟨-, -, ⟨w, w1, w2, w3, w4⟩, -⟩ := hC
  unfold g_X3_rows
  rw [if_pos (hD.T l), gI_T (hD.T l), Option.bind_some, w2, show (40 : Int32) = nI 40 from rfl, jmin_nI (by decide) (by omega), ← w3]
theorem e_X3_chalked {p : Nat} (l : lay σ) (hD : isD D) (hC : CD W σ D S) (hW : W < 2147483648) (hw : DW t Y S) (hp : p < 10) (hF : 100 < F) : g_X3_chalked F σ D (nI p) = some (nI (chS S.2.2.1 p), σ) := by
  have hr := fun F => e_X3_rows (F := F) l hD hC hW
  obtain ⟨-, -, ⟨w, w1, w2, w3, w4⟩, -⟩ := hC
  have hch := hw.2.2.2.2.2.2.2.2.2.2
  have hlen : S.2.2.1.length ≤ 40 := hw.2.1
  -- the raw count
  have raw : cnt (fun k => decide (mI σ (D + 14) k = nI p)) S.2.2.1.length = chS S.2.2.1 p := by
    have e1 : cnt (fun k => decide (mI σ (D + 14) ((w - S.2.2.1.length + k) % 40) = nI p)) S.2.2.1.length = chS S.2.2.1 p := cnt_congr _ (fun k hk => by
      rw [w4 k hk]
      have := hch k hk
      by_cases c : S.2.2.1.getD k 0 = p
      · rw [c, decide_eq_true rfl, decide_eq_true rfl]
      · rw [decide_eq_false c, decide_eq_false (fun q => c ((nI_eq (by omega) (by omega)).mp q))])
    rw [← e1]
    by_cases c : w < 40
    · have : w - S.2.2.1.length = 0 := by omega
      rw [this]
      exact cnt_congr _ (fun k hk => by rw [Nat.zero_add, Nat.mod_eq_of_lt (by omega)])
    · have e2 : S.2.2.1.length = 40 := by omega
      rw [e2]
      exact (cnt_rot (p := fun k => decide (mI σ (D + 14) k = nI p)) (by decide) _).symm
  unfold g_X3_chalked
  rw [if_pos (hD.T l), ← raw]
  refine ylv (l_X3_chalked_4 (fun (r2_9 : Int32) (σ8 : MM) => some (r2_9, σ8)) F D (nI p)) (fun v σ => some (v, σ)) (fun k => nI (cnt (fun k => decide (mI σ (D + 14) k = nI p)) k)) σ S.2.2.1.length (fun f k hk => ?_) (fun f => ?_) (by omega)
  · rw [l_X3_chalked_4.eq_2, hr, bq_some, if_pos (nI_lt hk (by omega)), gP_T (hD.T l), Option.bind_some, hD.P2 l, aI_T (by rw [hD.T14 l]) (by rw [hD.T14 l]; show k < 40; omega) (by rw [hD.T14 l]; decide), Option.bind_some, jn_eq]
    have e : cnt (fun k => decide (mI σ (D + 14) k = nI p)) (k + 1) = cnt (fun k => decide (mI σ (D + 14) k = nI p)) k + (if decide (mI σ (D + 14) k = nI p) = true then 1 else 0) := rfl
    rw [e]
    by_cases c : mI σ (D + 14) k = nI p
    · rw [if_pos c, if_pos (decide_eq_true c), ← nI_1 (cnt _ k)]
      (try rw [nI_1 k])
    · rw [if_neg c, if_neg (fun q => c (of_decide_eq_true q))]
      simp only [nI_1, Int32.add_zero, Nat.add_zero]
  · rw [l_X3_chalked_4.eq_2, hr, bq_some, if_neg (nI_nlt (Nat.le_refl _) (by omega))]
theorem e_X6_chalksOf {τ : MM} {p : Nat} (l : lay τ) (hM : MD τ 86 S) (hw : DW t Y S) (hp : p < 10) (hF : 100 < F) : g_X6_chalksOf F τ 85 (nI p) = some (nI (chS S.2.2.1 p), τ) := by
  obtain ⟨-, -, ⟨m1, m2⟩, -⟩ := hM
  have hch := hw.2.2.2.2.2.2.2.2.2.2
  have hlen : S.2.2.1.length ≤ 40 := hw.2.1
  have a150 : aI τ 86 20 150 = some (nI S.2.2.1.length) := by
    rw [show (150 : Int32) = nI 150 from rfl, aI_T (by rw [T86 l]) (by rw [T86 l]; decide) (by rw [T86 l]; decide), m1]
  unfold g_X6_chalksOf
  rw [if_pos (T85 l)]
  refine ylv (l_X6_chalksOf_4 (fun (r2_9 : Int32) (σ8 : MM) => some (r2_9, σ8)) F 85 (nI p)) (fun v σ => some (v, σ)) (fun k => nI (cnt (fun k => decide (S.2.2.1.getD k 0 = p)) k)) τ S.2.2.1.length (fun f k hk => ?_) (fun f => ?_) (by omega)
  · rw [l_X6_chalksOf_4.eq_2, gP_T (T85 l), Option.bind_some, P85_0 l, a150, Option.bind_some, if_pos (nI_lt hk (by omega)), Option.bind_some, show (110 : Int32) = nI 110 from rfl, nI_add, aI_T (by rw [T86 l]) (by rw [T86 l]; show 110 + k < 159; omega) (by rw [T86 l]; decide), Option.bind_some, jn_eq, m2 k hk]
    have hq : nI (S.2.2.1.getD k 0) = nI p ↔ S.2.2.1.getD k 0 = p := nI_eq (by have := hch k hk; omega) (by omega)
    have e : cnt (fun k => decide (S.2.2.1.getD k 0 = p)) (k + 1) = cnt (fun k => decide (S.2.2.1.getD k 0 = p)) k + (if decide (S.2.2.1.getD k 0 = p) = true then 1 else 0) := rfl
    rw [e]
    by_cases c : S.2.2.1.getD k 0 = p
    · rw [if_pos (hq.mpr c), if_pos (decide_eq_true c), ← nI_1 (cnt _ k)]
      (try rw [nI_1 k])
    · rw [if_neg (fun q => c (hq.mp q)), if_neg (fun q => c (of_decide_eq_true q))]
      simp only [nI_1, Int32.add_zero, Nat.add_zero]
  · rw [l_X6_chalksOf_4.eq_2, gP_T (T85 l), Option.bind_some, P85_0 l, a150, Option.bind_some, if_neg (nI_nlt (Nat.le_refl _) (by omega))]
/-- the model's debts -/
theorem e_X6_debtOf {τ : MM} {d : Nat → Nat → Nat} {a b : Nat} (l : lay τ) (hd : hasL τ 86 d) (ha : a < 10) (hb : b < 10) : g_X6_debtOf F τ 85 (nI a) (nI b) = some (nI (d a b), τ) := by
  unfold g_X6_debtOf
  rw [if_pos (T85 l), gP_T (T85 l), Option.bind_some, P85_0 l, Int32.zero_add, ten_ab, aI_T (by rw [T86 l]) (by rw [T86 l]; show 10 * a + b < 159; omega) (by rw [T86 l]; decide), Option.bind_some, hd a ha b hb]
theorem e_X6_owesAll {τ : MM} {d : Nat → Nat → Nat} {a : Nat} (l : lay τ) (hd : hasL τ 86 d) (ha : a < 10) (hF : 10 < F) : g_X6_owesAll F τ 85 (nI a) = some (nI (owesS d a), τ) := by
  unfold g_X6_owesAll
  rw [if_pos (T85 l)]
  exact ylv (l_X6_owesAll_4 (fun (r2_9 : Int32) (σ8 : MM) => some (r2_9, σ8)) F 85 (nI a)) (fun v σ => some (v, σ)) (fun k => nI (sm (fun b => d a b) k)) τ 10 (fun f k hk => by
    rw [l_X6_owesAll_4.eq_2, if_pos (ten_in hk), e_X6_debtOf l hd ha hk, bq_some, nI_add, nI_1]
    rfl) (fun f => by rw [l_X6_owesAll_4.eq_2, if_neg ten_no]) hF
theorem e_X6_getsAll {τ : MM} {d : Nat → Nat → Nat} {b : Nat} (l : lay τ) (hd : hasL τ 86 d) (hb : b < 10) (hF : 10 < F) : g_X6_getsAll F τ 85 (nI b) = some (nI (getsS d b), τ) := by
  unfold g_X6_getsAll
  rw [if_pos (T85 l)]
  exact ylv (l_X6_getsAll_4 (fun (r2_9 : Int32) (σ8 : MM) => some (r2_9, σ8)) F 85 (nI b)) (fun v σ => some (v, σ)) (fun k => nI (sm (fun a => d a b) k)) τ 10 (fun f k hk => by
    rw [l_X6_getsAll_4.eq_2, if_pos (ten_in hk), e_X6_debtOf l hd hk hb, bq_some, nI_add, nI_1]
    rfl) (fun f => by rw [l_X6_getsAll_4.eq_2, if_neg ten_no]) hF
theorem e_X6_owedInAll {τ : MM} {d : Nat → Nat → Nat} (l : lay τ) (hd : hasL τ 86 d) (hF : 10 < F) : g_X6_owedInAll F τ 85 = some (nI (allS d), τ) := by
  unfold g_X6_owedInAll
  rw [if_pos (T85 l)]
  exact ylv (l_X6_owedInAll_4 (fun (r2_9 : Int32) (σ8 : MM) => some (r2_9, σ8)) F 85) (fun v σ => some (v, σ)) (fun k => nI (sm (fun a => owesS d a) k)) τ 10 (fun f k hk => by
    rw [l_X6_owedInAll_4.eq_2, if_pos (ten_in hk), e_X6_owesAll l hd hk hF, bq_some, nI_add, nI_1]
    rfl) (fun f => by rw [l_X6_owedInAll_4.eq_2, if_neg ten_no]) hF
end CHALK
