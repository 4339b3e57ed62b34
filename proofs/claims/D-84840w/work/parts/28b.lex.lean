/-! packed names -/
def pkc (c : Nat → Nat) (s : Nat) : Nat → Nat
  | 0 => 0
  | n + 1 => pkc c s n * 256 + c (s + n)
theorem pkc_lt {c : Nat → Nat} {s : Nat} : ∀ n, (∀ i, i < n → c (s + i) < 128) → pkc c s n < 128 * 256 ^ (n - 1) ∨ n = 0 := by
  intro n
  induction n with
  | zero => intro _; exact Or.inr rfl
  | succ n ih =>
    intro h
    left
    have hn := h n (Nat.lt_succ_self n)
    rcases ih (fun i hi => h i (by omega)) with h1 | h1
    · show pkc c s n * 256 + c (s + n) < 128 * 256 ^ n
      cases n with
      | zero => simp [pkc]; omega
      | succ n =>
        have h1 : pkc c s (n + 1) < 128 * 256 ^ n := h1
        have e : 256 ^ (n + 1) = 256 ^ n * 256 := rfl
        generalize 256 ^ n = P at *
        rw [e]
        have : pkc c s (n + 1) + 1 ≤ 128 * P := h1
        have h2 : (pkc c s (n + 1) + 1) * 256 ≤ 128 * P * 256 := Nat.mul_le_mul_right 256 this
        rw [Nat.add_mul] at h2
        have h3 : 128 * (P * 256) = 128 * P * 256 := by rw [Nat.mul_assoc]
        omega
    · subst h1
      show 0 * 256 + c (s + 0) < 128 * 256 ^ 0
      simp at hn ⊢
      omega
theorem pkc_lt8 {c : Nat → Nat} {s n : Nat} (hn : n ≤ 8) (h : ∀ i, i < n → c (s + i) < 128) : pkc c s n < 9223372036854775808 := by
  rcases pkc_lt n h with h1 | h1
  · refine Nat.lt_of_lt_of_le h1 ?_
    have : 256 ^ (n - 1) ≤ 256 ^ 7 := Nat.pow_le_pow_right (by decide) (by omega)
    calc 128 * 256 ^ (n - 1) ≤ 128 * 256 ^ 7 := Nat.mul_le_mul_left _ this
      _ = 9223372036854775808 := by decide
  · subst h1; exact (by decide : (0 : Nat) < 9223372036854775808)
theorem pkc_lt7 {c : Nat → Nat} {s n : Nat} (hn : n < 8) (h : ∀ i, i < n → c (s + i) < 128) : pkc c s n < 72057594037927936 := by
  rcases pkc_lt n h with h1 | h1
  · refine Nat.lt_of_lt_of_le h1 ?_
    have : 256 ^ (n - 1) ≤ 256 ^ 6 := Nat.pow_le_pow_right (by decide) (by omega)
    calc 128 * 256 ^ (n - 1) ≤ 128 * 256 ^ 6 := Nat.mul_le_mul_left _ this
      _ ≤ 72057594037927936 := by decide
  · subst h1; exact (by decide : (0 : Nat) < 72057594037927936)
theorem pkc_inj {c c' : Nat → Nat} {s s' : Nat} : ∀ n n', (∀ i, i < n → 1 ≤ c (s + i) ∧ c (s + i) < 256) → (∀ i, i < n' → 1 ≤ c' (s' + i) ∧ c' (s' + i) < 256) → (pkc c s n = pkc c' s' n' ↔ n = n' ∧ ∀ i, i < n → c (s + i) = c' (s' + i)) := by
  intro n
  induction n with
  | zero =>
    intro n' _ h'
    constructor
    · intro h
      cases n' with
      | zero => exact ⟨rfl, fun i hi => absurd hi (Nat.not_lt_zero _)⟩
      | succ n' =>
        have := (h' n' (Nat.lt_succ_self _)).1
        have h : 0 = pkc c' s' n' * 256 + c' (s' + n') := h
        omega
    · intro h
      rw [← h.1]; rfl
  | succ n ih =>
    intro n' h h'
    cases n' with
    | zero =>
      constructor
      · intro e
        have := (h n (Nat.lt_succ_self _)).1
        have e : pkc c s n * 256 + c (s + n) = 0 := e
        omega
      · intro e; exact absurd e.1 (by omega)
    | succ n' =>
      have a := h n (Nat.lt_succ_self _)
      have b := h' n' (Nat.lt_succ_self _)
      have i1 := ih n' (fun i hi => h i (by omega)) (fun i hi => h' i (by omega))
      constructor
      · intro e
        have e : pkc c s n * 256 + c (s + n) = pkc c' s' n' * 256 + c' (s' + n') := e
        have e1 : pkc c s n = pkc c' s' n' := by omega
        have e2 : c (s + n) = c' (s' + n') := by omega
        obtain ⟨q1, q2⟩ := i1.mp e1
        refine ⟨by omega, fun i hi => ?_⟩
        by_cases hi2 : i < n
        · exact q2 i hi2
        · rw [show i = n by omega, e2, q1]
      · intro ⟨e1, e2⟩
        have e1 : n = n' := by omega
        have e3 := i1.mpr ⟨e1, fun i hi => e2 i (by omega)⟩
        show pkc c s n * 256 + c (s + n) = pkc c' s' n' * 256 + c' (s' + n')
        rw [e3, e2 n (Nat.lt_succ_self _), e1]
theorem shl8 {P h : Nat} (hP : P < 72057594037927936) (hh : h < 128) : ((Int64.ofNat P) <<< ((8 : Int32).toInt64 &&& 63)) ||| (by8 (i32 h)).toInt64 = Int64.ofNat (P * 256 + h) := by
  rw [by8_id (by rw [i32_ti (by omega) (by omega)]; omega) (by rw [i32_ti (by omega) (by omega)]; omega), ← Int64.toBitVec_inj]
  have e1 : (i32 h).toInt64.toBitVec = BitVec.ofNat 64 h := by
    show (i32 h).toBitVec.signExtend 64 = _
    have e0 : (i32 (h : Int)).toBitVec = BitVec.ofNat 32 h := by rw [← i32_nat]; rfl
    rw [e0]
    apply BitVec.eq_of_toNat_eq
    rw [BitVec.signExtend_eq_setWidth_of_msb_false]
    · simp; omega
    · rw [BitVec.msb_eq_decide]; simp; omega
  show (BitVec.ofNat 64 P <<< (((8 : Int32).toInt64 &&& 63).toBitVec.smod 64#64)) ||| (i32 h).toInt64.toBitVec = BitVec.ofNat 64 (P * 256 + h)
  rw [e1]
  show (BitVec.ofNat 64 P <<< (8 : Nat)) ||| BitVec.ofNat 64 h = _
  apply BitVec.eq_of_toNat_eq
  rw [BitVec.toNat_or, BitVec.toNat_shiftLeft, BitVec.toNat_ofNat, BitVec.toNat_ofNat, BitVec.toNat_ofNat, Nat.mod_eq_of_lt (show P < 2 ^ 64 by omega), Nat.mod_eq_of_lt (show h < 2 ^ 64 by omega)]
  rw [Nat.shiftLeft_eq, Nat.mod_eq_of_lt (show P * 2 ^ 8 < 2 ^ 64 by omega), Nat.mod_eq_of_lt (show P * 256 + h < 2 ^ 64 by omega)]
  have := Nat.shiftLeft_add_eq_or_of_lt (show h < 2 ^ 8 by omega) P
  rw [Nat.shiftLeft_eq] at this
  omega
theorem of64_inj {a b : Nat} (ha : a < 9223372036854775808) (hb : b < 9223372036854775808) : Int64.ofNat a = Int64.ofNat b ↔ a = b := by
  refine ⟨fun h => ?_, fun h => by rw [h]⟩
  have e := congrArg (fun x : Int64 => x.toBitVec.toNat) h
  have e : (BitVec.ofNat 64 a).toNat = (BitVec.ofNat 64 b).toNat := e
  rw [BitVec.toNat_ofNat, BitVec.toNat_ofNat, Nat.mod_eq_of_lt (by omega), Nat.mod_eq_of_lt (by omega)] at e
  exact e
theorem lcmp_eq {α : Type} {x y : Int64} {a b : α} : cond (pv_c1 .eq (pv_lcmp x y)) a b = if x = y then a else b := by
  by_cases e : x = y
  · rw [e, lcmp_same, if_pos rfl]
  · rw [if_neg e]
    have : ¬ pv_lcmp x y = 0 := by
      unfold pv_lcmp lg_cmp
      intro h
      by_cases h1 : y < x
      · rw [if_pos h1] at h; exact absurd h (by decide)
      · rw [if_neg h1, if_neg e] at h; exact absurd h (by decide)
    have : pv_c1 .eq (pv_lcmp x y) = false := decide_eq_false this
    rw [this]
    rfl
