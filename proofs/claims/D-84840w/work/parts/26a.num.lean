/-! NUMBERS: ints by their values -/
def i32 (z : Int) : Int32 := Int32.ofInt z
def r32 (z : Int) : Prop := -2147483648 ≤ z ∧ z < 2147483648
theorem i32_ti {z : Int} (h1 : -2147483648 ≤ z) (h2 : z < 2147483648) : (i32 z).toInt = z := Int32.toInt_ofInt_of_le (by omega) (by omega)
theorem i32_of (x : Int32) : i32 x.toInt = x := Int32.ofInt_toInt x
theorem i32_add (a b : Int) : i32 a + i32 b = i32 (a + b) := (Int32.ofInt_add a b).symm
theorem i32_sub (a b : Int) : i32 a - i32 b = i32 (a - b) := (Int32.ofInt_sub a b).symm
theorem i32_mul (a b : Int) : i32 a * i32 b = i32 (a * b) := (Int32.ofInt_mul a b).symm
theorem i32_nat (n : Nat) : Int32.ofNat n = i32 n := Int32.ofInt_eq_ofNat.symm
theorem i32_raw (z : Int) : Int32.ofInt z = i32 z := rfl
theorem i32_lit (n : Nat) : (OfNat.ofNat n : Int32) = i32 (n : Int) := i32_nat n
theorem i32_neg1 : (-1 : Int32) = i32 (-1) := rfl
theorem i32_inj {a b : Int} (h1 : -2147483648 ≤ a) (h2 : a < 2147483648) (h3 : -2147483648 ≤ b) (h4 : b < 2147483648) : i32 a = i32 b ↔ a = b := by
  refine ⟨fun h => ?_, fun h => by rw [h]⟩
  have := congrArg Int32.toInt h
  rwa [i32_ti h1 h2, i32_ti h3 h4] at this
theorem i32_ix {z : Int} (h1 : 0 ≤ z) (h2 : z < 2147483648) : ix (i32 z) = z.toNat := by
  show (i32 z).toInt.toNat = _
  rw [i32_ti (by omega) h2]
theorem i32_ixn {n : Nat} (h2 : n < 2147483648) : ix (i32 n) = n := by
  rw [i32_ix (by omega) (by omega)]; omega
theorem c_in {z : Int} {n : Nat} {α : Type} {a b : α} (h1 : 0 ≤ z) (h2 : z < n) (h3 : n ≤ 2147483648) : cond (pv_in (i32 z) n) a b = a := by
  have : pv_in (i32 z) n = true := by
    unfold pv_in
    refine decide_eq_true ?_
    rw [Int32.lt_iff_toInt_lt, i32_ti (by omega) (by omega)]
    have e : (i32 z).toNatClampNeg = z.toNat := i32_ix h1 (by omega)
    rw [e]
    show ¬ (z < 0 ∨ n ≤ z.toNat)
    omega
  rw [this]
  rfl
theorem c_inx {x : Int32} {n : Nat} {α : Type} {a b : α} (h1 : 0 ≤ x.toInt) (h2 : x.toInt < n) (h3 : n ≤ 2147483648) : cond (pv_in x n) a b = a := by
  rw [← i32_of x]
  exact c_in h1 h2 h3
section CMP
variable {a b : Int}
theorem c2_eq (h1 : -2147483648 ≤ a) (h2 : a < 2147483648) (h3 : -2147483648 ≤ b) (h4 : b < 2147483648) : pv_c2 .eq (i32 a) (i32 b) = decide (a = b) := by
  unfold pv_c2; exact decide_eq_decide.mpr (i32_inj h1 h2 h3 h4)
theorem c2_ne (h1 : -2147483648 ≤ a) (h2 : a < 2147483648) (h3 : -2147483648 ≤ b) (h4 : b < 2147483648) : pv_c2 .ne (i32 a) (i32 b) = decide (¬ a = b) := by
  unfold pv_c2; exact decide_eq_decide.mpr (not_congr (i32_inj h1 h2 h3 h4))
theorem c2_lt (h1 : -2147483648 ≤ a) (h2 : a < 2147483648) (h3 : -2147483648 ≤ b) (h4 : b < 2147483648) : pv_c2 .lt (i32 a) (i32 b) = decide (a < b) := by
  unfold pv_c2; exact decide_eq_decide.mpr (by rw [Int32.lt_iff_toInt_lt, i32_ti h1 h2, i32_ti h3 h4])
theorem c2_gt (h1 : -2147483648 ≤ a) (h2 : a < 2147483648) (h3 : -2147483648 ≤ b) (h4 : b < 2147483648) : pv_c2 .gt (i32 a) (i32 b) = decide (b < a) := by
  unfold pv_c2; exact decide_eq_decide.mpr (by rw [Int32.lt_iff_toInt_lt, i32_ti h1 h2, i32_ti h3 h4])
theorem c2_ge (h1 : -2147483648 ≤ a) (h2 : a < 2147483648) (h3 : -2147483648 ≤ b) (h4 : b < 2147483648) : pv_c2 .ge (i32 a) (i32 b) = decide (b ≤ a) := by
  unfold pv_c2; exact decide_eq_decide.mpr (by rw [Int32.le_iff_toInt_le, i32_ti h1 h2, i32_ti h3 h4])
theorem c2_le (h1 : -2147483648 ≤ a) (h2 : a < 2147483648) (h3 : -2147483648 ≤ b) (h4 : b < 2147483648) : pv_c2 .le (i32 a) (i32 b) = decide (a ≤ b) := by
  unfold pv_c2; exact decide_eq_decide.mpr (by rw [Int32.le_iff_toInt_le, i32_ti h1 h2, i32_ti h3 h4])
theorem i32_0 : (0 : Int32) = i32 0 := rfl
theorem c12 (c : ClassFile.Cond) (x : Int32) : pv_c1 c x = pv_c2 c x 0 := by cases c <;> rfl
theorem c1_eq (h1 : -2147483648 ≤ a) (h2 : a < 2147483648) : pv_c1 .eq (i32 a) = decide (a = 0) := by rw [c12, i32_0, c2_eq h1 h2 (by omega) (by omega)]
theorem c1_ne (h1 : -2147483648 ≤ a) (h2 : a < 2147483648) : pv_c1 .ne (i32 a) = decide (¬ a = 0) := by rw [c12, i32_0, c2_ne h1 h2 (by omega) (by omega)]
theorem c1_lt (h1 : -2147483648 ≤ a) (h2 : a < 2147483648) : pv_c1 .lt (i32 a) = decide (a < 0) := by rw [c12, i32_0, c2_lt h1 h2 (by omega) (by omega)]
theorem c1_ge (h1 : -2147483648 ≤ a) (h2 : a < 2147483648) : pv_c1 .ge (i32 a) = decide (0 ≤ a) := by rw [c12, i32_0, c2_ge h1 h2 (by omega) (by omega)]
theorem c1_gt (h1 : -2147483648 ≤ a) (h2 : a < 2147483648) : pv_c1 .gt (i32 a) = decide (0 < a) := by rw [c12, i32_0, c2_gt h1 h2 (by omega) (by omega)]
theorem c1_le (h1 : -2147483648 ≤ a) (h2 : a < 2147483648) : pv_c1 .le (i32 a) = decide (a ≤ 0) := by rw [c12, i32_0, c2_le h1 h2 (by omega) (by omega)]
end CMP
/-! the same by toInt -/
theorem c2_eqx (x y : Int32) : pv_c2 .eq x y = decide (x.toInt = y.toInt) := by unfold pv_c2; exact decide_eq_decide.mpr Int32.toInt_inj.symm
theorem c2_nex (x y : Int32) : pv_c2 .ne x y = decide (¬ x.toInt = y.toInt) := by unfold pv_c2; exact decide_eq_decide.mpr (not_congr Int32.toInt_inj.symm)
theorem c2_ltx (x y : Int32) : pv_c2 .lt x y = decide (x.toInt < y.toInt) := by unfold pv_c2; exact decide_eq_decide.mpr Int32.lt_iff_toInt_lt
theorem c2_gtx (x y : Int32) : pv_c2 .gt x y = decide (y.toInt < x.toInt) := by unfold pv_c2; exact decide_eq_decide.mpr Int32.lt_iff_toInt_lt
theorem c2_gex (x y : Int32) : pv_c2 .ge x y = decide (y.toInt ≤ x.toInt) := by unfold pv_c2; exact decide_eq_decide.mpr Int32.le_iff_toInt_le
theorem c2_lex (x y : Int32) : pv_c2 .le x y = decide (x.toInt ≤ y.toInt) := by unfold pv_c2; exact decide_eq_decide.mpr Int32.le_iff_toInt_le
theorem c1_eqx (x : Int32) : pv_c1 .eq x = decide (x.toInt = 0) := by rw [c12, c2_eqx]; rfl
theorem c1_nex (x : Int32) : pv_c1 .ne x = decide (¬ x.toInt = 0) := by rw [c12, c2_nex]; rfl
theorem c1_ltx (x : Int32) : pv_c1 .lt x = decide (x.toInt < 0) := by rw [c12, c2_ltx]; rfl
theorem c1_gex (x : Int32) : pv_c1 .ge x = decide (0 ≤ x.toInt) := by rw [c12, c2_gex]; rfl
theorem c1_gtx (x : Int32) : pv_c1 .gt x = decide (0 < x.toInt) := by rw [c12, c2_gtx]; rfl
theorem c1_lex (x : Int32) : pv_c1 .le x = decide (x.toInt ≤ 0) := by rw [c12, c2_lex]; rfl
theorem ti_lo (x : Int32) : -2147483648 ≤ x.toInt := Int32.le_toInt x
theorem ti_hi (x : Int32) : x.toInt < 2147483648 := Int32.toInt_lt x
theorem ti_add {x y : Int32} (h1 : -2147483648 ≤ x.toInt + y.toInt) (h2 : x.toInt + y.toInt < 2147483648) : (x + y).toInt = x.toInt + y.toInt := by
  have e := i32_add x.toInt y.toInt
  rw [i32_of, i32_of] at e
  rw [e, i32_ti h1 h2]
theorem ti_sub {x y : Int32} (h1 : -2147483648 ≤ x.toInt - y.toInt) (h2 : x.toInt - y.toInt < 2147483648) : (x - y).toInt = x.toInt - y.toInt := by
  have e := i32_sub x.toInt y.toInt
  rw [i32_of, i32_of] at e
  rw [e, i32_ti h1 h2]
theorem ix_x {x : Int32} {z : Int} (h : x.toInt = z) : ix x = z.toNat := by rw [← h]; rfl
theorem c_t {α : Type} {p : Prop} [Decidable p] {a b : α} (h : p) : cond (decide p) a b = a := by rw [decide_eq_true h]; rfl
theorem c_f {α : Type} {p : Prop} [Decidable p] {a b : α} (h : ¬ p) : cond (decide p) a b = b := by rw [decide_eq_false h]; rfl
/-! bytes -/
def by8 (x : Int32) : Int32 := x.toInt8.toInt32
theorem nar_by8 (x : Int32) : vp_nar .byte x.toInt8.toInt32 = by8 x := by
  show x.toInt8.toInt32.toInt8.toInt32 = x.toInt8.toInt32
  simp
theorem by8_ti (x : Int32) : (by8 x).toInt = x.toInt.bmod 256 := by
  show x.toInt8.toInt32.toInt = _
  rw [Int8.toInt_toInt32, Int32.toInt_toInt8]
theorem by8_id {x : Int32} (h1 : -128 ≤ x.toInt) (h2 : x.toInt < 128) : by8 x = x := by
  rw [← Int32.toInt_inj, by8_ti, Int.bmod_def]
  split <;> omega
theorem by8_by8 (x : Int32) : by8 (by8 x) = by8 x := by
  show x.toInt8.toInt32.toInt8.toInt32 = x.toInt8.toInt32
  simp
