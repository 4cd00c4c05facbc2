/-! THE PLAIN LAW: whole numbers of 32 bits as integers -/
def iI (z : Int) : Int32 := Int32.ofInt z
theorem iI_of (x : Int32) : iI x.toInt = x := Int32.ofInt_toInt x
theorem iI_ofs (x : Int32) : ∃ z : Int, -2147483648 ≤ z ∧ z < 2147483648 ∧ x = iI z := ⟨x.toInt, x.le_toInt, x.toInt_lt, (iI_of x).symm⟩
theorem iI_toInt {z : Int} (h : -2147483648 ≤ z) (h2 : z < 2147483648) : (iI z).toInt = z := Int32.toInt_ofInt_of_le h h2
theorem nI_iI (n : Nat) : nI n = iI n := Int32.ofInt_eq_ofNat.symm
theorem iI_nat (n : Nat) : iI (n : Int) = nI n := Int32.ofInt_eq_ofNat
theorem iI_add (a b : Int) : iI a + iI b = iI (a + b) := (Int32.ofInt_add a b).symm
theorem iI_sub (a b : Int) : iI a - iI b = iI (a - b) := (Int32.ofInt_sub a b).symm
theorem iI_mul (a b : Int) : iI a * iI b = iI (a * b) := (Int32.ofInt_mul a b).symm
theorem iI_neg (a : Int) : - iI a = iI (-a) := Int32.neg_ofInt
theorem iI_lt {a b : Int} (h1 : -2147483648 ≤ a) (h2 : a < 2147483648) (h3 : -2147483648 ≤ b) (h4 : b < 2147483648) : iI a < iI b ↔ a < b := by
  rw [Int32.lt_iff_toInt_lt, iI_toInt h1 h2, iI_toInt h3 h4]
theorem iI_le {a b : Int} (h1 : -2147483648 ≤ a) (h2 : a < 2147483648) (h3 : -2147483648 ≤ b) (h4 : b < 2147483648) : iI a ≤ iI b ↔ a ≤ b := by
  rw [Int32.le_iff_toInt_le, iI_toInt h1 h2, iI_toInt h3 h4]
theorem iI_eq {a b : Int} (h1 : -2147483648 ≤ a) (h2 : a < 2147483648) (h3 : -2147483648 ≤ b) (h4 : b < 2147483648) : iI a = iI b ↔ a = b := by
  rw [← Int32.toInt_inj, iI_toInt h1 h2, iI_toInt h3 h4]
theorem iI_clamp {z : Int} (h1 : -2147483648 ≤ z) (h2 : z < 2147483648) : (iI z).toNatClampNeg = z.toNat := Int32.toNatClampNeg_ofInt_of_le h1 h2
theorem nI_mul (a b : Nat) : nI a * nI b = nI (a * b) := by
  rw [nI_iI, nI_iI, nI_iI, iI_mul, Int.natCast_mul]
theorem nI_sub {a b : Nat} (h : b ≤ a) : nI a - nI b = nI (a - b) := by
  rw [nI_iI, nI_iI, nI_iI, iI_sub, Int.ofNat_sub h]
theorem nI_div {a b : Nat} (ha : a < 2 ^ 31) (hb : b < 2 ^ 31) : nI a / nI b = nI (a / b) := by
  apply Int32.toInt_inj.mp
  rw [Int32.toInt_div, nI_toInt ha, nI_toInt hb, nI_toInt (Nat.lt_of_le_of_lt (Nat.div_le_self a b) ha)]
  rw [← Int.ofNat_tdiv]
  have h9 := Nat.div_le_self a b
  generalize a / b = q at h9 ⊢
  exact Int.bmod_eq_of_le (by omega) (by omega)
/-- what remains, of nonnegative ints -/
theorem rm_nI {a b : Nat} (ha : a < 2 ^ 31) (hb : b < 2 ^ 31) (h0 : 0 < b) : rm_ (nI a) (nI b) = some (nI (a % b)) := by
  unfold rm_
  rw [if_neg (nI_ne0 h0 hb), nI_div ha hb, nI_mul, nI_sub (Nat.div_mul_le_self a b)]
  congr 2
  have := Nat.div_add_mod a b
  rw [Nat.mul_comm] at this
  omega
theorem dv_nI {a b : Nat} (ha : a < 2 ^ 31) (hb : b < 2 ^ 31) (h0 : 0 < b) : dv (nI a) (nI b) = some (nI (a / b)) := by
  unfold dv
  rw [if_neg (nI_ne0 h0 hb), nI_div ha hb]
theorem jmax_nI {a b : Nat} (ha : a < 2 ^ 31) (hb : b < 2 ^ 31) : jmax (nI a) (nI b) = nI (max a b) := by
  unfold jmax
  by_cases h : a < b
  · rw [if_pos (nI_lt h hb), Nat.max_eq_right (Nat.le_of_lt h)]
  · rw [if_neg (nI_nlt (Nat.not_lt.mp h) ha), Nat.max_eq_left (Nat.not_lt.mp h)]
theorem jmin_nI {a b : Nat} (ha : a < 2 ^ 31) (hb : b < 2 ^ 31) : jmin (nI a) (nI b) = nI (min a b) := by
  unfold jmin
  by_cases h : b < a
  · rw [if_pos (nI_lt h ha), Nat.min_eq_right (Nat.le_of_lt h)]
  · rw [if_neg (nI_nlt (Nat.not_lt.mp h) hb), Nat.min_eq_left (Nat.not_lt.mp h)]
theorem jmax_iI {a b : Int} (h1 : -2147483648 ≤ a) (h2 : a < 2147483648) (h3 : -2147483648 ≤ b) (h4 : b < 2147483648) : jmax (iI a) (iI b) = iI (max a b) := by
  unfold jmax
  by_cases h : a < b
  · rw [if_pos ((iI_lt h1 h2 h3 h4).mpr h), Int.max_eq_right (Int.le_of_lt h)]
  · rw [if_neg (fun q => h ((iI_lt h1 h2 h3 h4).mp q)), Int.max_eq_left (Int.not_lt.mp h)]
theorem jmin_iI {a b : Int} (h1 : -2147483648 ≤ a) (h2 : a < 2147483648) (h3 : -2147483648 ≤ b) (h4 : b < 2147483648) : jmin (iI a) (iI b) = iI (min a b) := by
  unfold jmin
  by_cases h : b < a
  · rw [if_pos ((iI_lt h3 h4 h1 h2).mpr h), Int.min_eq_right (Int.le_of_lt h)]
  · rw [if_neg (fun q => h ((iI_lt h3 h4 h1 h2).mp q)), Int.min_eq_left (Int.not_lt.mp h)]
theorem jabs_iI {a : Int} (h1 : -2147483648 < a) (h2 : a < 2147483648) : jabs (iI a) = iI (a.natAbs : Int) := by
  unfold jabs
  have e0 : (0 : Int32) = iI 0 := rfl
  by_cases h : 0 ≤ a
  · rw [if_pos (e0 ▸ (iI_le (by omega) (by omega) (by omega) h2).mpr h)]
    congr 1; omega
  · rw [if_neg (fun q => h ((iI_le (by omega) (by omega) (by omega) h2).mp (e0 ▸ q))), e0, iI_sub]
    congr 1; omega
theorem ix_nI {k n : Nat} (h : k < n) (hn : n < 2 ^ 31) : ix (nI k) n := ⟨nI_pos (by omega), by rw [nI_clamp (by omega)]; exact h⟩
