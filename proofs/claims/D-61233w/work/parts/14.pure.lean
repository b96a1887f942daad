/-! ===== numbers ===== -/
def b2 (b : Bool) : Int32 := if b then 1 else 0
theorem b2_f {b : Bool} (h : b2 b = 0) : b = false := by cases b with | false => rfl | true => exact absurd h (by decide)
theorem b2_t {b : Bool} (h : ¬ b2 b = 0) : b = true := by cases b with | true => rfl | false => exact absurd rfl h
theorem b2_nar (b : Bool) : narrow .boolean (.int (b2 b)) = .int (b2 b) := by cases b <;> rfl
theorem b2_fit (b : Bool) : fits .boolean (.int (b2 b)) = true := by cases b <;> rfl
def iI (z : Int) : Int32 := Int32.ofInt z
theorem nI_iI (n : Nat) : nI n = iI n := by
  apply Int32.toBitVec_inj.mp
  simp [nI, iI, Int32.toBitVec_ofNat, Int32.toBitVec_ofInt]
theorem iI_add (a b : Int) : iI a + iI b = iI (a + b) := by
  apply Int32.toBitVec_inj.mp
  simp [iI, Int32.toBitVec_ofInt, BitVec.ofInt_add]
theorem iI_mul (a b : Int) : iI a * iI b = iI (a * b) := by
  apply Int32.toBitVec_inj.mp
  simp [iI, Int32.toBitVec_ofInt, BitVec.ofInt_mul]
theorem iI_sub (a b : Int) : iI a - iI b = iI (a - b) := by
  have h := iI_add (a - b) b
  rw [Int.sub_add_cancel] at h
  rw [← h]
  exact Int32.add_sub_cancel _ _
theorem iI_toInt {a : Int} (h1 : -2147483648 ≤ a) (h2 : a < 2147483648) : (iI a).toInt = a := Int32.toInt_ofInt_of_le h1 (by simpa using h2)
theorem iI_ltI {a b : Int} (h1 : -2147483648 ≤ a) (h2 : a < 2147483648) (h3 : -2147483648 ≤ b) (h4 : b < 2147483648) : iI a < iI b ↔ a < b := by
  rw [Int32.lt_iff_toInt_lt, iI_toInt h1 h2, iI_toInt h3 h4]
theorem iI_leI {a b : Int} (h1 : -2147483648 ≤ a) (h2 : a < 2147483648) (h3 : -2147483648 ≤ b) (h4 : b < 2147483648) : iI a ≤ iI b ↔ a ≤ b := by
  rw [Int32.le_iff_toInt_le, iI_toInt h1 h2, iI_toInt h3 h4]
theorem iI_eq {a b : Int} (h1 : -2147483648 ≤ a) (h2 : a < 2147483648) (h3 : -2147483648 ≤ b) (h4 : b < 2147483648) : iI a = iI b ↔ a = b := by
  rw [← Int32.toInt_inj, iI_toInt h1 h2, iI_toInt h3 h4]
theorem lc_lt {x y : Int64} : lg_cmp x y < 0 ↔ x < y := by
  unfold lg_cmp
  by_cases h1 : y < x
  · have h2 : ¬ x < y := fun h => by rw [Int64.lt_iff_toInt_lt] at h h1; omega
    simp [h1, h2]
  · by_cases h2 : x < y
    · have h3 : ¬ x = y := fun h => by rw [h] at h2; exact absurd h2 (by rw [Int64.lt_iff_toInt_lt]; omega)
      simp [h1, h2, h3]
    · have h3 : x = y := by
        apply Int64.toInt_inj.mp
        rw [Int64.lt_iff_toInt_lt] at h1 h2; omega
      simp [h3]
theorem lc_gt {x y : Int64} : 0 < lg_cmp x y ↔ y < x := by
  unfold lg_cmp
  by_cases h1 : y < x
  · simp [h1]
  · by_cases h2 : x < y
    · have h3 : ¬ x = y := fun h => by rw [h] at h2; exact absurd h2 (by rw [Int64.lt_iff_toInt_lt]; omega)
      simp [h1, h2, h3]
    · have h3 : x = y := by
        apply Int64.toInt_inj.mp
        rw [Int64.lt_iff_toInt_lt] at h1 h2; omega
      simp [h3]
theorem lc_eq {x y : Int64} : lg_cmp x y = 0 ↔ x = y := by
  unfold lg_cmp
  by_cases h1 : y < x
  · have h3 : ¬ x = y := fun h => by rw [h] at h1; exact absurd h1 (by rw [Int64.lt_iff_toInt_lt]; omega)
    simp [h1, h3]
  · by_cases h2 : x < y
    · have h3 : ¬ x = y := fun h => by rw [h] at h2; exact absurd h2 (by rw [Int64.lt_iff_toInt_lt]; omega)
      simp [h1, h2, h3]
    · have h3 : x = y := by
        apply Int64.toInt_inj.mp
        rw [Int64.lt_iff_toInt_lt] at h1 h2; omega
      simp [h3]
theorem i32_nlt {x y : Int32} : ¬ x < y ↔ y ≤ x := by rw [Int32.lt_iff_toInt_lt, Int32.le_iff_toInt_le]; omega
theorem i32_nle {x y : Int32} : ¬ x ≤ y ↔ y < x := by rw [Int32.lt_iff_toInt_lt, Int32.le_iff_toInt_le]; omega
theorem i64_nlt {x y : Int64} : ¬ x < y ↔ y ≤ x := by rw [Int64.lt_iff_toInt_lt, Int64.le_iff_toInt_le]; omega
theorem i64_nle {x y : Int64} : ¬ x ≤ y ↔ y < x := by rw [Int64.lt_iff_toInt_lt, Int64.le_iff_toInt_le]; omega
theorem lc_ge {x y : Int64} : 0 ≤ lg_cmp x y ↔ y ≤ x := by rw [← i32_nlt, lc_lt, i64_nlt]
theorem lc_le {x y : Int64} : lg_cmp x y ≤ 0 ↔ x ≤ y := by rw [← i32_nlt, lc_gt, i64_nlt]
theorem lc_ne {x y : Int64} : lg_cmp x y = 0 ↔ x = y := lc_eq
