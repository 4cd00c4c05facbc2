/-! SETS as bits -/
theorem bx_bv (n : Nat) : (nI n).toBitVec = BitVec.ofNat 32 n := rfl
theorem bx_and (a b : Nat) : nI a &&& nI b = nI (a &&& b) := Int32.toBitVec_inj.mp (by rw [Int32.toBitVec_and, bx_bv, bx_bv, bx_bv, BitVec.ofNat_and])
theorem bx_or (a b : Nat) : nI a ||| nI b = nI (a ||| b) := Int32.toBitVec_inj.mp (by rw [Int32.toBitVec_or, bx_bv, bx_bv, bx_bv, BitVec.ofNat_or])
theorem bx_xor (a b : Nat) : nI a ^^^ nI b = nI (a ^^^ b) := Int32.toBitVec_inj.mp (by rw [Int32.toBitVec_xor, bx_bv, bx_bv, bx_bv, BitVec.ofNat_xor])
theorem bx_cnt : ∀ k, k < 32 → (((nI k) &&& 31).toBitVec.smod 32).toNat = k := by decide +kernel
theorem bx_one {k : Nat} (h : k < 31) : (1 : Int32) <<< (nI k &&& 31) = nI (2 ^ k) := by
  have e := pk_shlN (n := 1) (nI k &&& 31) k (bx_cnt k (by omega)) (by
    rw [Nat.one_mul]
    exact Nat.pow_lt_pow_right (by decide) (by omega))
  rw [Nat.one_mul] at e
  exact e
theorem bx_shr {s k : Nat} (hs : s < 2 ^ 31) (h : k < 31) : nI s >>> (nI k &&& 31) = nI (s / 2 ^ k) := pk_shrN hs (nI k &&& 31) k (bx_cnt k (by omega))
theorem bx_has {s k : Nat} (hs : s < 2 ^ 31) (h : k < 31) : ((nI s >>> (nI k &&& 31)) &&& 1) = 1 ↔ s.testBit k = true := by
  rw [bx_shr hs h, show (1 : Int32) = nI 1 from rfl, bx_and, Nat.and_one_is_mod, nI_eq (by omega) (by omega), Nat.testBit_eq_decide_div_mod_eq, decide_eq_true_iff]
theorem bx_bit {s k : Nat} (hs : s < 2 ^ 31) (h : k < 31) : ((nI s >>> (nI k &&& 31)) &&& 1) = nI (if s.testBit k = true then 1 else 0) := by
  by_cases c : s.testBit k = true
  · rw [if_pos c]
    exact (bx_has hs h).mpr c
  · rw [if_neg c]
    rw [bx_shr hs h, show (1 : Int32) = nI 1 from rfl, bx_and, Nat.and_one_is_mod]
    rw [Nat.testBit_eq_decide_div_mod_eq, decide_eq_true_iff] at c
    congr 1
    omega
/-- less the members of another -/
def less (a b : Nat) : Nat := a ^^^ (a &&& b)
theorem less_bit (a b i : Nat) : (less a b).testBit i = (a.testBit i && !b.testBit i) := by
  unfold less
  rw [Nat.testBit_xor, Nat.testBit_and]
  cases a.testBit i <;> cases b.testBit i <;> rfl
theorem less_lt {a b n : Nat} (h : a < 2 ^ n) : less a b < 2 ^ n := Nat.xor_lt_two_pow h (Nat.lt_of_le_of_lt Nat.and_le_left h)
theorem bx_less (a b : Nat) : nI a &&& (nI b ^^^ (-1)) = nI (less a b) := by
  apply Int32.toBitVec_inj.mp
  unfold less
  rw [Int32.toBitVec_and, Int32.toBitVec_xor, bx_bv, bx_bv, bx_bv]
  have e : (-1 : Int32).toBitVec = BitVec.allOnes 32 := by decide +kernel
  rw [e, BitVec.ofNat_xor, BitVec.ofNat_and, BitVec.xor_allOnes]
  apply BitVec.eq_of_getLsbD_eq
  intro i hi
  simp only [BitVec.getLsbD_and, BitVec.getLsbD_not, BitVec.getLsbD_xor, hi, decide_true, Bool.true_and]
  cases (BitVec.ofNat 32 a).getLsbD i <;> cases (BitVec.ofNat 32 b).getLsbD i <;> rfl
theorem bit_ext {a b n : Nat} (ha : a < 2 ^ n) (hb : b < 2 ^ n) (h : ∀ i, i < n → a.testBit i = b.testBit i) : a = b := by
  apply Nat.eq_of_testBit_eq
  intro i
  by_cases hi : i < n
  · exact h i hi
  · rw [Nat.testBit_lt_two_pow (Nat.lt_of_lt_of_le ha (Nat.pow_le_pow_right (by decide) (Nat.not_lt.mp hi))), Nat.testBit_lt_two_pow (Nat.lt_of_lt_of_le hb (Nat.pow_le_pow_right (by decide) (Nat.not_lt.mp hi)))]
theorem bit_one (k i : Nat) : (2 ^ k).testBit i = decide (k = i) := Nat.testBit_two_pow
theorem e_has {F : Nat} {σ : MM} {s k : Nat} (hs : s < 2 ^ 31) (h : k < 31) : g_X0_has F σ (nI s) (nI k) = some (if s.testBit k = true then 1 else 0, σ) := by
  unfold g_X0_has
  by_cases c : s.testBit k = true
  · rw [if_pos ((bx_has hs h).mpr c), if_pos c]
  · rw [if_neg (fun q => c ((bx_has hs h).mp q)), if_neg c]
theorem e_hasM {F : Nat} {σ : MM} {s k : Nat} (hs : s < 2 ^ 31) (h : k < 31) : g_X6_has F σ (nI s) (nI k) = some (if s.testBit k = true then 1 else 0, σ) := by
  unfold g_X6_has
  by_cases c : s.testBit k = true
  · rw [if_pos ((bx_has hs h).mpr c), if_pos c]
  · rw [if_neg (fun q => c ((bx_has hs h).mp q)), if_neg c]
