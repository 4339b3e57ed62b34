/-! TAPE AND OUT: the component's in one state, the model's in another -/
def RT (t : Nat) (σ τ : tvS) : Prop := t ≤ 3000 ∧ rd σ 1 1 = i32 t ∧ rd τ 123 1 = i32 t ∧ ∀ i, i < t → rd σ 2 i = by8 (rd τ 124 i) ∧ 1 ≤ (rd τ 124 i).toInt ∧ (rd τ 124 i).toInt ≤ 255
def RO (t : Nat) (σ τ : tvS) : Prop := t ≤ 20000 ∧ rd σ 3 1 = i32 t ∧ rd τ 123 3 = i32 t ∧ ∀ i, i < t → rd σ 4 i = rd τ 125 i ∧ 1 ≤ (rd τ 125 i).toInt ∧ (rd τ 125 i).toInt ≤ 127
theorem RT.congr {t : Nat} {σ τ σ' τ' : tvS} (h : RT t σ τ) (h1 : rd σ' 1 1 = rd σ 1 1) (h2 : ∀ i, rd σ' 2 i = rd σ 2 i) (h3 : rd τ' 123 1 = rd τ 123 1) (h4 : ∀ i, rd τ' 124 i = rd τ 124 i) : RT t σ' τ' := by
  obtain ⟨a, b, c, e⟩ := h
  exact ⟨a, h1.trans b, h3.trans c, fun i hi => by rw [h2, h4]; exact e i hi⟩
theorem RO.congr {t : Nat} {σ τ σ' τ' : tvS} (h : RO t σ τ) (h1 : rd σ' 3 1 = rd σ 3 1) (h2 : ∀ i, rd σ' 4 i = rd σ 4 i) (h3 : rd τ' 123 3 = rd τ 123 3) (h4 : ∀ i, rd τ' 125 i = rd τ 125 i) : RO t σ' τ' := by
  obtain ⟨a, b, c, e⟩ := h
  exact ⟨a, h1.trans b, h3.trans c, fun i hi => by rw [h2, h4]; exact e i hi⟩
theorem RT.push {t : Nat} {σ τ : tvS} (h : RT t σ τ) (ht : t < 3000) {x : Int32} (h1 : 1 ≤ x.toInt) (h2 : x.toInt ≤ 255) : RT (t + 1) (wr (wr σ 2 t (by8 x)) 1 1 (i32 (t + 1 : Nat))) (wr (wr τ 124 t x) 123 1 (i32 (t + 1 : Nat))) := by
  obtain ⟨a, b, c, e⟩ := h
  refine ⟨by omega, wr_self _ _ _ _, wr_self _ _ _ _, fun i hi => ?_⟩
  by_cases q : i = t
  · subst q
    simp only [rd_wr, Nat.reduceEqDiff, false_and, true_and, and_self, if_false, if_true]
    exact ⟨h1, h2⟩
  · simp only [rd_wr, Nat.reduceEqDiff, false_and, true_and, q, and_false, if_false, if_true]
    exact e i (by omega)
theorem RO.push {t : Nat} {σ τ : tvS} (h : RO t σ τ) (ht : t < 20000) {x : Int32} (h1 : 1 ≤ x.toInt) (h2 : x.toInt ≤ 127) : RO (t + 1) (wr (wr σ 4 t (by8 x)) 3 1 (i32 (t + 1 : Nat))) (wr (wr τ 125 t x) 123 3 (i32 (t + 1 : Nat))) := by
  obtain ⟨a, b, c, e⟩ := h
  refine ⟨by omega, wr_self _ _ _ _, wr_self _ _ _ _, fun i hi => ?_⟩
  by_cases q : i = t
  · subst q
    simp only [rd_wr, Nat.reduceEqDiff, false_and, true_and, and_self, if_false, if_true]
    exact ⟨by8_id (by omega) (by omega), h1, h2⟩
  · simp only [rd_wr, Nat.reduceEqDiff, false_and, true_and, q, and_false, if_false, if_true]
    exact e i (by omega)
/-! the eight signs of a number -/
theorem sh_63 : ∀ s : Nat, s < 64 → ((i32 s).toInt64 &&& 63) = Int64.ofNat s := by decide +kernel
theorem sh_u : ∀ s : Nat, s < 64 → (BitVec.ofNat 64 s % 64#64).toNat = s := by decide +kernel
theorem sh_s : ∀ s : Nat, s < 64 → ((BitVec.ofNat 64 s).smod 64#64).toNat = s := by decide +kernel
theorem byte_same (y : Int64) (s : Nat) (hs : s ≤ 56) : ((y.toUInt64 >>> ((i32 s).toInt64.toUInt64 &&& Int64.toUInt64 63)).toInt64 &&& 255).toInt32 = ((y >>> ((i32 s).toInt64 &&& 63)) &&& 255).toInt32 := by
  rw [show ((i32 s).toInt64.toUInt64 &&& Int64.toUInt64 63) = ((i32 s).toInt64 &&& 63).toUInt64 from rfl, sh_63 s (by omega)]
  apply congrArg Int64.toInt32
  rw [← Int64.toBitVec_inj]
  show (y.toBitVec >>> (BitVec.ofNat 64 s % 64#64).toNat) &&& 255#64 = (y.toBitVec.sshiftRight' ((BitVec.ofNat 64 s).smod 64#64)) &&& 255#64
  rw [BitVec.sshiftRight_eq', sh_u s (by omega), sh_s s (by omega)]
  apply BitVec.eq_of_getLsbD_eq
  intro i hi
  rw [BitVec.getLsbD_and, BitVec.getLsbD_and, BitVec.getLsbD_ushiftRight, BitVec.getLsbD_sshiftRight]
  by_cases h8 : i < 8
  · rw [if_pos (by omega), decide_eq_false (by omega)]
    rfl
  · have : (255#64).getLsbD i = false := by
      rw [BitVec.getLsbD_ofNat, show (255 : Nat) = 2 ^ 8 - 1 from rfl, Nat.testBit_two_pow_sub_one, decide_eq_false h8, Bool.and_false]
    rw [this, Bool.and_false, Bool.and_false]
theorem and_255 (z : Int64) : ∃ m : Nat, m < 256 ∧ (z &&& 255).toInt32 = i32 m := by
  refine ⟨(z.toBitVec &&& 255#64).toNat, ?_, ?_⟩
  · rw [BitVec.toNat_and]
    exact Nat.lt_of_le_of_lt Nat.and_le_right (by decide)
  · rw [← i32_nat, ← Int32.toBitVec_inj]
    show BitVec.signExtend 32 (z.toBitVec &&& 255#64) = BitVec.ofNat 32 (z.toBitVec &&& 255#64).toNat
    rw [BitVec.ofNat_toNat, BitVec.signExtend_eq_setWidth_of_le _ (by decide)]
/-! the two loops of 'type' -/
section TYPE
variable {L : Nat} {xs : Nat → Int32}
theorem tS_wr {S : Nat → Bool} {σ : tvS} {k i k2 i2 : Nat} {x x2 : Int32} (h1 : S k = true) (h2 : S k2 = true) : frS S σ (wr (wr σ k i x) k2 i2 x2) := (frS_wr h1 _ _).trans (frS_wr h2 _ _)
def fr1 (l : List Nat) (σ σ' : tvS) : Prop := frS SM σ σ' ∧ (∀ i, inL l i = false → rd σ' 123 i = rd σ 123 i) ∧ (∀ k, k ≠ 123 → k ≠ 124 → k ≠ 125 → ∀ i, rd σ' k i = rd σ k i) ∧ rm σ' = rm σ
theorem type_loop (y : Int64) (d : Nat) : ∀ (k : Nat) (t : Nat) (σ τ : tvS) (v2 v4 u2 u4 : Value), k ≤ 8 → RT t σ τ → ∃ t' σ' τ', RT t' σ' τ' ∧
    rn L xs (d + 3) 9 3 [.ref 0, .long y, v2, .int (i32 (8 * (k : Int) - 8)), v4] [] σ = some (.inl (some (.int (i32 t'))), σ') ∧
    rn L xs (d + 3) 283 8 [.ref 123, .long y, u2, .int (i32 (8 * (k : Int) - 8)), u4] [] τ = some (.inl (some (.int (i32 t'))), τ') ∧
    (∀ k, STape k = false → ∀ i, rd σ' k i = rd σ k i) ∧ σ'.2 = σ.2 ∧ (∀ k i, ¬ (k = 124 ∨ k = 123 ∧ i = 1) → rd τ' k i = rd τ k i) ∧ τ'.2 = τ.2 := by
  intro k
  induction k with
  | zero =>
    intro t σ τ v2 v4 u2 u4 hk hR
    refine ⟨t, σ, τ, hR, ?_, ?_, fun _ _ _ => rfl, rfl, fun _ _ _ => rfl, rfl⟩
    · rw [e9_3 (d + 2), c1_lt (by omega) (by omega), c_t (by omega), e9_37 (d + 2), bI_ok (e36_0 (d + 1) σ), hR.2.1]
    · rw [e283_8 (d + 2), c1_lt (by omega) (by omega), c_t (by omega), e283_64 (d + 2), hR.2.2.1]
  | succ k ih =>
    intro t σ τ v2 v4 u2 u4 hk hR
    have hz : (8 * ((k + 1 : Nat) : Int) - 8) = ((8 * k : Nat) : Int) := by omega
    have hz2 : i32 ((8 * k : Nat) : Int) + Int32.ofInt (-8) = i32 (8 * (k : Int) - 8) := by
      rw [i32_raw, i32_add]; congr 1
    rw [hz]
    obtain ⟨m, hm, em⟩ := and_255 (y >>> ((i32 (8 * k : Nat)).toInt64 &&& 63))
    have hb := byte_same y (8 * k) (by omega)
    rw [em] at hb
    have ht := hR.1
    rw [e9_3 (d + 2), e283_8 (d + 2), c1_lt (by omega) (by omega), c_f (by omega), c_f (by omega), hb, em, c1_eq (by omega) (by omega), hR.2.2.1, show (3000 : Int32) = i32 3000 from rfl, c2_ge (by omega) (by omega) (by omega) (by omega)]
    by_cases h0 : m = 0
    · rw [c_t (by omega), c_t (by omega), e9_31 (d + 2), e283_58 (d + 2), hz2]
      exact ih t σ τ _ _ _ _ (by omega) hR
    · rw [c_f (by omega), c_f (by omega), bV_ok (add1 hR.2.1 hR.1 (d + 0) (i32 m)), e9_31 (d + 2), hz2]
      by_cases h1 : t = 3000
      · rw [if_pos h1, c_t (by omega), e283_58 (d + 2), hz2]
        exact ih t σ τ _ _ _ _ (by omega) hR
      · rw [if_neg h1, c_f (by omega), c_in (by omega) (by omega) (by omega), e283_58 (d + 2), hz2, i32_ixn (by omega), show (1 : Int32) = i32 1 from rfl, i32_add, show (t : Int) + 1 = ((t + 1 : Nat) : Int) by omega]
        have hR2 := hR.push (x := i32 m) (by omega) (by rw [i32_ti (by omega) (by omega)]; omega) (by rw [i32_ti (by omega) (by omega)]; omega)
        obtain ⟨t', σ', τ', q1, q2, q3, q4, q5, q6, q7⟩ := ih (t + 1) _ _ (jk (dj v2)) (.int (i32 m)) (jk u2) (.int (i32 m)) (by omega) hR2
        refine ⟨t', σ', τ', q1, q2, q3, fun k' hk' i => ?_, q5, fun k' i hki => ?_, q7⟩
        · rw [q4 k' hk', wr_nek (fun e => by rw [e] at hk'; cases hk'), wr_nek (fun e => by rw [e] at hk'; cases hk')]
        · rw [q6 k' i hki, rd_wr, if_neg (fun e => hki (Or.inr e)), wr_nek (fun e => hki (Or.inl e))]
end TYPE
