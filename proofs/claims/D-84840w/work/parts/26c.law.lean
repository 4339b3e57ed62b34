/-! THE LAW'S LOOP -/
theorem swk_of {M pc : Nat} {x : Int32} {K : Nat → tvR} {p : Nat} (h : ((insP M pc).bind fun q => tv_sw q.1 pc x) = some p) : swk M pc x K = K p := by
  unfold swk
  cases hi : insP M pc with
  | none => rw [hi] at h; cases h
  | some q =>
    obtain ⟨i, a, b, c, e⟩ := q
    rw [hi] at h
    have h : tv_sw i pc x = some p := h
    show (tv_sw i pc x).bind K = K p
    rw [h]
    rfl
theorem and_31 (x : Int32) : ∃ m : Nat, m < 32 ∧ x &&& 31 = i32 m := by
  refine ⟨(x.toBitVec &&& 31#32).toNat, ?_, ?_⟩
  · rw [BitVec.toNat_and]
    exact Nat.lt_of_le_of_lt Nat.and_le_right (by decide)
  · rw [← i32_nat, ← Int32.toBitVec_inj]
    show x.toBitVec &&& 31#32 = BitVec.ofNat 32 _
    rw [BitVec.ofNat_toNat]
    simp
def lawT (m : Nat) : Nat := [128, 185, 229, 254, 298, 354, 379, 392, 460, 540, 577, 602, 626, 682, 695, 720, 757, 770, 783].getD m 827
theorem law_sw : ∀ m, m < 32 → ((insP 441 39).bind fun q => tv_sw q.1 39 (i32 (m : Nat))) = some (lawT m) := by decide +kernel
section LAW
variable (L : Nat) (xs : Nat → Int32) (J : Nat → tvS → Prop)
/-- a call of both with the same answer -/
def opP (M1 : Nat) (l1 : List Value) (M2 : Nat) (l2 : List Value) : Prop := ∀ n σ, J (n + 1) σ → ∃ x σ1 σ2, rn L xs 1495 M1 0 l1 [] σ = some (.inl (some (.int x)), σ1) ∧ rn L xs 1495 M2 0 l2 [] σ1 = some (.inl (some (.int x)), σ2) ∧ J n σ2
/-- one that may throw -/
def opT (M1 : Nat) (l1 : List Value) (M2 : Nat) (l2 : List Value) : Prop := ∀ n σ, J (n + 1) σ → ∃ k b σ1 σ2, rn L xs 1495 M1 0 l1 [] σ = some (.inl (some (.int k)), σ1) ∧ rn L xs 1495 M2 0 l2 [] σ1 = some (.inl (some (.int b)), σ2) ∧ rd σ2 123 0 = k ∧ (k = 0 → rl σ2 238 0 = b.toInt64) ∧ J n σ2
def opV (M1 : Nat) (l1 : List Value) (M2 : Nat) (l2 : List Value) : Prop := ∀ n σ, J (n + 1) σ → ∃ k σ1 σ2, rn L xs 1495 M1 0 l1 [] σ = some (.inl (some (.int k)), σ1) ∧ rn L xs 1495 M2 0 l2 [] σ1 = some (.inl none, σ2) ∧ rd σ2 123 0 = k ∧ J n σ2
def OPS : Prop :=
  (∀ y : Int64, opP L xs J 9 [.ref 0, .long y, jv, jv, jv] 283 [.ref 123, .long y, jv, jv, jv]) ∧
  opT L xs J 0 [.ref 0, .ref 238, jv] 284 [.ref 123, jv, jv] ∧
  (∀ a : Int32, opP L xs J 10 [.ref 0, .int a] 371 [.ref 123, .int a]) ∧
  opT L xs J 1 [.ref 0, .ref 238, jv] 372 [.ref 123, jv, jv] ∧
  (∀ a : Int32, opT L xs J 2 [.ref 0, .int a, .ref 238, jv] 382 [.ref 123, .int a, jv]) ∧
  (∀ a : Int32, opP L xs J 11 [.ref 0, .int a] 388 [.ref 123, .int a]) ∧
  opP L xs J 12 [.ref 0, jv] 389 [.ref 123, jv] ∧
  (∀ a b : Int32, opT L xs J 3 [.ref 0, .int a, .int b, .ref 238, jv] 390 [.ref 123, .int a, .int b, jv, jv]) ∧
  (∀ a b c : Int32, opT L xs J 4 [.ref 0, .int a, .int b, .int c, .ref 238, jv] 391 [.ref 123, .int a, .int b, .int c, jv, jv]) ∧
  (∀ a b : Int32, opP L xs J 13 [.ref 0, .int a, .int b] 392 [.ref 123, .int a, .int b]) ∧
  (∀ a : Int32, opP L xs J 14 [.ref 0, .int a] 393 [.ref 123, .int a]) ∧
  opV L xs J 5 [.ref 0, jv] 394 [.ref 123, jv, jv, jv] ∧
  (∀ a : Int32, opT L xs J 6 [.ref 0, .int a, .ref 238, jv] 398 [.ref 123, .int a, jv, jv]) ∧
  opP L xs J 15 [.ref 0] 422 [.ref 123] ∧
  (∀ a : Int32, opP L xs J 16 [.ref 0, .int a] 423 [.ref 123, .int a]) ∧
  (∀ a b : Int32, opP L xs J 17 [.ref 0, .int a, .int b] 424 [.ref 123, .int a, .int b]) ∧
  opP L xs J 18 [.ref 0] 425 [.ref 123] ∧
  opP L xs J 19 [.ref 0] 426 [.ref 123, jv] ∧
  opT L xs J 7 [.ref 0, .ref 238, jv] 427 [.ref 123, jv, jv]
variable {L xs J}
theorem bI_ok {r : tvR} {K : Int32 → tvS → tvR} {X : Nat → Nat → tvS → tvR} {x : Int32} {σ : tvS} (h : r = some (.inl (some (.int x)), σ)) : bI r K X = K x σ := by rw [h]; rfl
theorem bV_ok {r : tvR} {K : tvS → tvR} {X : Nat → Nat → tvS → tvR} {σ : tvS} (h : r = some (.inl none, σ)) : bV r K X = K σ := by rw [h]; rfl
theorem bL_ok {r : tvR} {K : Int64 → tvS → tvR} {X : Nat → Nat → tvS → tvR} {x : Int64} {σ : tvS} (h : r = some (.inl (some (.long x)), σ)) : bL r K X = K x σ := by rw [h]; rfl
theorem bF_ok {r : tvR} {K : UInt32 → tvS → tvR} {X : Nat → Nat → tvS → tvR} {x : UInt32} {σ : tvS} (h : r = some (.inl (some (.float x)), σ)) : bF r K X = K x σ := by rw [h]; rfl
theorem bI_ex {r : tvR} {K : Int32 → tvS → tvR} {X : Nat → Nat → tvS → tvR} {t k : Nat} {σ : tvS} (h : r = some (.inr (t, k), σ)) : bI r K X = X t k σ := by rw [h]; rfl
theorem bV_ex {r : tvR} {K : tvS → tvR} {X : Nat → Nat → tvS → tvR} {t k : Nat} {σ : tvS} (h : r = some (.inr (t, k), σ)) : bV r K X = X t k σ := by rw [h]; rfl
theorem c2_refl (x : Int32) {α : Type} {a b : α} : cond (pv_c2 .eq x x) a b = a := by
  unfold pv_c2
  rw [decide_eq_true rfl]
  rfl
theorem lcmp_same (y : Int64) {α : Type} {a b : α} : cond (pv_c1 .eq (pv_lcmp y y)) a b = a := by
  have : pv_lcmp y y = 0 := by unfold pv_lcmp lg_cmp; simp
  rw [this]
  rfl
theorem bI_c {c : Bool} {a : tvR} (h : cond c a none = a) {x : tvR} : cond c (cond c x none) none = cond c x none := by cases c <;> rfl
variable (hL : L ≤ 256)
theorem law_in (hL : L ≤ 256) {z : Nat} {w : Nat} (h : z + w < L) {a b : tvR} : cond (pv_in (i32 z + i32 w) L) a b = a := by
  rw [i32_add]
  exact c_in (by omega) (by omega) (by omega)
/-- the tail of those that may throw -/
theorem law_end {σ : tvS} {z k b : Int32} {p q : Nat} {e : tvR} (h1 : rn L xs 1496 441 p [.retAddr 0, .ref 0, .ref 123, .ref 238, .int z, .int k, .int b] [] σ = cond (pv_c1 .ne k) (rn L xs 1496 441 q [.retAddr 0, .ref 0, .ref 123, .ref 238, .int z, .int k, .int b] [] σ) (cond (pv_c1 .eq (pv_lcmp (rl σ 238 (ix 0)) b.toInt64)) (rn L xs 1496 441 q [.retAddr 0, .ref 0, .ref 123, .ref 238, .int z, .int k, .int b] [] σ) e))
    (h2 : rn L xs 1496 441 q [.retAddr 0, .ref 0, .ref 123, .ref 238, .int z, .int k, .int b] [] σ = rn L xs 1496 441 827 [.retAddr 0, .ref 0, .ref 123, .ref 238, .int z, .int k, .int b] [] σ) (hk : k = 0 → rl σ 238 0 = b.toInt64) :
    rn L xs 1496 441 p [.retAddr 0, .ref 0, .ref 123, .ref 238, .int z, .int k, .int b] [] σ = rn L xs 1496 441 827 [.retAddr 0, .ref 0, .ref 123, .ref 238, .int z, .int k, .int b] [] σ := by
  rw [h1, h2]
  by_cases e0 : k = 0
  · have e1 : pv_c1 .ne k = false := by unfold pv_c1; rw [e0]; rfl
    have e2 : rl σ 238 (ix 0) = b.toInt64 := hk e0
    rw [e1, e2, lcmp_same]
    rfl
  · have e1 : pv_c1 .ne k = true := by unfold pv_c1; exact decide_eq_true e0
    rw [e1]
    rfl
def lawS (L : Nat) (xs : Nat → Int32) (J : Nat → tvS → Prop) (n j : Nat) (σ : tvS) (pc : Nat) : Prop := ∀ v5 v6, ∃ w5 w6 σ', rn L xs 1496 441 pc [.retAddr 0, .ref 0, .ref 123, .ref 238, .int (i32 (4 * j : Nat)), v5, v6] [] σ = rn L xs 1496 441 827 [.retAddr 0, .ref 0, .ref 123, .ref 238, .int (i32 (4 * j : Nat)), w5, w6] [] σ' ∧ J n σ'
theorem law_0 (hL : L ≤ 256) (hO : OPS L xs J) {n j : Nat} {σ : tvS} (hj : 4 * j + 4 ≤ L) (hJ : J (n + 1) σ) : lawS L xs J n j σ 128 := by
  intro v5 v6
  obtain ⟨h0, h1, h2, h3, h4, h5, h6, h7, h8, h9, h10, h11, h12, h13, h14, h15, h16, h17, h18⟩ := hO
  rw [e441_128 1495]
  have c1 : ∀ {a b : tvR}, cond (pv_in (i32 (4 * j : Nat) + 1) L) a b = a := fun {a b} => law_in hL (z := 4 * j) (w := 1) (by omega)
  have c2 : ∀ {a b : tvR}, cond (pv_in (i32 (4 * j : Nat) + 2) L) a b = a := fun {a b} => law_in hL (z := 4 * j) (w := 2) (by omega)
  rw [c1, c2]
  obtain ⟨x, σ1, σ2, r1, r2, hJ2⟩ := h0 _ n σ hJ
  rw [bI_ok r1]
  rw [c1, c2]
  rw [bI_ok r2, c2_refl]
  exact ⟨_, _, σ2, rfl, hJ2⟩
theorem law_1 (hL : L ≤ 256) (hO : OPS L xs J) {n j : Nat} {σ : tvS} (hj : 4 * j + 4 ≤ L) (hJ : J (n + 1) σ) : lawS L xs J n j σ 185 := by
  intro v5 v6
  obtain ⟨h0, h1, h2, h3, h4, h5, h6, h7, h8, h9, h10, h11, h12, h13, h14, h15, h16, h17, h18⟩ := hO
  rw [e441_185 1495]
  obtain ⟨k, b, σ1, σ2, r1, r2, r3, r4, hJ2⟩ := h1  n σ hJ
  rw [bI_ok r1]
  rw [bI_ok r2, bI_ok (e282_0 1494 σ2), r3, c2_refl]
  exact ⟨_, _, σ2, law_end (e441_209 1495 σ2 _ k b) (e441_226 1495 σ2 _ _ _) r4, hJ2⟩
theorem law_2 (hL : L ≤ 256) (hO : OPS L xs J) {n j : Nat} {σ : tvS} (hj : 4 * j + 4 ≤ L) (hJ : J (n + 1) σ) : lawS L xs J n j σ 229 := by
  intro v5 v6
  obtain ⟨h0, h1, h2, h3, h4, h5, h6, h7, h8, h9, h10, h11, h12, h13, h14, h15, h16, h17, h18⟩ := hO
  rw [e441_229 1495]
  have c1 : ∀ {a b : tvR}, cond (pv_in (i32 (4 * j : Nat) + 1) L) a b = a := fun {a b} => law_in hL (z := 4 * j) (w := 1) (by omega)
  rw [c1]
  obtain ⟨x, σ1, σ2, r1, r2, hJ2⟩ := h2 (xs (ix (i32 (4 * j : Nat) + 1))) n σ hJ
  rw [bI_ok r1]
  rw [c1]
  rw [bI_ok r2, c2_refl]
  exact ⟨_, _, σ2, rfl, hJ2⟩
theorem law_3 (hL : L ≤ 256) (hO : OPS L xs J) {n j : Nat} {σ : tvS} (hj : 4 * j + 4 ≤ L) (hJ : J (n + 1) σ) : lawS L xs J n j σ 254 := by
  intro v5 v6
  obtain ⟨h0, h1, h2, h3, h4, h5, h6, h7, h8, h9, h10, h11, h12, h13, h14, h15, h16, h17, h18⟩ := hO
  rw [e441_254 1495]
  obtain ⟨k, b, σ1, σ2, r1, r2, r3, r4, hJ2⟩ := h3  n σ hJ
  rw [bI_ok r1]
  rw [bI_ok r2, bI_ok (e282_0 1494 σ2), r3, c2_refl]
  exact ⟨_, _, σ2, law_end (e441_278 1495 σ2 _ k b) (e441_295 1495 σ2 _ _ _) r4, hJ2⟩
theorem law_4 (hL : L ≤ 256) (hO : OPS L xs J) {n j : Nat} {σ : tvS} (hj : 4 * j + 4 ≤ L) (hJ : J (n + 1) σ) : lawS L xs J n j σ 298 := by
  intro v5 v6
  obtain ⟨h0, h1, h2, h3, h4, h5, h6, h7, h8, h9, h10, h11, h12, h13, h14, h15, h16, h17, h18⟩ := hO
  rw [e441_298 1495]
  have c1 : ∀ {a b : tvR}, cond (pv_in (i32 (4 * j : Nat) + 1) L) a b = a := fun {a b} => law_in hL (z := 4 * j) (w := 1) (by omega)
  rw [c1]
  obtain ⟨k, b, σ1, σ2, r1, r2, r3, r4, hJ2⟩ := h4 (xs (ix (i32 (4 * j : Nat) + 1))) n σ hJ
  rw [bI_ok r1]
  rw [c1]
  rw [bI_ok r2, bI_ok (e282_0 1494 σ2), r3, c2_refl]
  exact ⟨_, _, σ2, law_end (e441_334 1495 σ2 _ k b) (e441_351 1495 σ2 _ _ _) r4, hJ2⟩
theorem law_5 (hL : L ≤ 256) (hO : OPS L xs J) {n j : Nat} {σ : tvS} (hj : 4 * j + 4 ≤ L) (hJ : J (n + 1) σ) : lawS L xs J n j σ 354 := by
  intro v5 v6
  obtain ⟨h0, h1, h2, h3, h4, h5, h6, h7, h8, h9, h10, h11, h12, h13, h14, h15, h16, h17, h18⟩ := hO
  rw [e441_354 1495]
  have c1 : ∀ {a b : tvR}, cond (pv_in (i32 (4 * j : Nat) + 1) L) a b = a := fun {a b} => law_in hL (z := 4 * j) (w := 1) (by omega)
  rw [c1]
  obtain ⟨x, σ1, σ2, r1, r2, hJ2⟩ := h5 (xs (ix (i32 (4 * j : Nat) + 1))) n σ hJ
  rw [bI_ok r1]
  rw [c1]
  rw [bI_ok r2, c2_refl]
  exact ⟨_, _, σ2, rfl, hJ2⟩
theorem law_6 (hL : L ≤ 256) (hO : OPS L xs J) {n j : Nat} {σ : tvS} (hj : 4 * j + 4 ≤ L) (hJ : J (n + 1) σ) : lawS L xs J n j σ 379 := by
  intro v5 v6
  obtain ⟨h0, h1, h2, h3, h4, h5, h6, h7, h8, h9, h10, h11, h12, h13, h14, h15, h16, h17, h18⟩ := hO
  rw [e441_379 1495]
  obtain ⟨x, σ1, σ2, r1, r2, hJ2⟩ := h6  n σ hJ
  rw [bI_ok r1]
  rw [bI_ok r2, c2_refl]
  exact ⟨_, _, σ2, rfl, hJ2⟩
theorem law_7 (hL : L ≤ 256) (hO : OPS L xs J) {n j : Nat} {σ : tvS} (hj : 4 * j + 4 ≤ L) (hJ : J (n + 1) σ) : lawS L xs J n j σ 392 := by
  intro v5 v6
  obtain ⟨h0, h1, h2, h3, h4, h5, h6, h7, h8, h9, h10, h11, h12, h13, h14, h15, h16, h17, h18⟩ := hO
  rw [e441_392 1495]
  have c1 : ∀ {a b : tvR}, cond (pv_in (i32 (4 * j : Nat) + 1) L) a b = a := fun {a b} => law_in hL (z := 4 * j) (w := 1) (by omega)
  have c2 : ∀ {a b : tvR}, cond (pv_in (i32 (4 * j : Nat) + 2) L) a b = a := fun {a b} => law_in hL (z := 4 * j) (w := 2) (by omega)
  rw [c1, c2]
  obtain ⟨k, b, σ1, σ2, r1, r2, r3, r4, hJ2⟩ := h7 (xs (ix (i32 (4 * j : Nat) + 1))) (xs (ix (i32 (4 * j : Nat) + 2))) n σ hJ
  rw [bI_ok r1]
  rw [c1, c2]
  rw [bI_ok r2, bI_ok (e282_0 1494 σ2), r3, c2_refl]
  exact ⟨_, _, σ2, law_end (e441_440 1495 σ2 _ k b) (e441_457 1495 σ2 _ _ _) r4, hJ2⟩
theorem law_8 (hL : L ≤ 256) (hO : OPS L xs J) {n j : Nat} {σ : tvS} (hj : 4 * j + 4 ≤ L) (hJ : J (n + 1) σ) : lawS L xs J n j σ 460 := by
  intro v5 v6
  obtain ⟨h0, h1, h2, h3, h4, h5, h6, h7, h8, h9, h10, h11, h12, h13, h14, h15, h16, h17, h18⟩ := hO
  rw [e441_460 1495]
  have c1 : ∀ {a b : tvR}, cond (pv_in (i32 (4 * j : Nat) + 1) L) a b = a := fun {a b} => law_in hL (z := 4 * j) (w := 1) (by omega)
  have c2 : ∀ {a b : tvR}, cond (pv_in (i32 (4 * j : Nat) + 2) L) a b = a := fun {a b} => law_in hL (z := 4 * j) (w := 2) (by omega)
  have c3 : ∀ {a b : tvR}, cond (pv_in (i32 (4 * j : Nat) + 3) L) a b = a := fun {a b} => law_in hL (z := 4 * j) (w := 3) (by omega)
  rw [c1, c2, c3]
  obtain ⟨k, b, σ1, σ2, r1, r2, r3, r4, hJ2⟩ := h8 (xs (ix (i32 (4 * j : Nat) + 1))) (xs (ix (i32 (4 * j : Nat) + 2))) (xs (ix (i32 (4 * j : Nat) + 3))) n σ hJ
  rw [bI_ok r1]
  rw [c1, c2, c3]
  rw [bI_ok r2, bI_ok (e282_0 1494 σ2), r3, c2_refl]
  exact ⟨_, _, σ2, law_end (e441_520 1495 σ2 _ k b) (e441_537 1495 σ2 _ _ _) r4, hJ2⟩
theorem law_9 (hL : L ≤ 256) (hO : OPS L xs J) {n j : Nat} {σ : tvS} (hj : 4 * j + 4 ≤ L) (hJ : J (n + 1) σ) : lawS L xs J n j σ 540 := by
  intro v5 v6
  obtain ⟨h0, h1, h2, h3, h4, h5, h6, h7, h8, h9, h10, h11, h12, h13, h14, h15, h16, h17, h18⟩ := hO
  rw [e441_540 1495]
  have c1 : ∀ {a b : tvR}, cond (pv_in (i32 (4 * j : Nat) + 1) L) a b = a := fun {a b} => law_in hL (z := 4 * j) (w := 1) (by omega)
  have c2 : ∀ {a b : tvR}, cond (pv_in (i32 (4 * j : Nat) + 2) L) a b = a := fun {a b} => law_in hL (z := 4 * j) (w := 2) (by omega)
  rw [c1, c2]
  obtain ⟨x, σ1, σ2, r1, r2, hJ2⟩ := h9 (xs (ix (i32 (4 * j : Nat) + 1))) (xs (ix (i32 (4 * j : Nat) + 2))) n σ hJ
  rw [bI_ok r1]
  rw [c1, c2]
  rw [bI_ok r2, c2_refl]
  exact ⟨_, _, σ2, rfl, hJ2⟩
theorem law_10 (hL : L ≤ 256) (hO : OPS L xs J) {n j : Nat} {σ : tvS} (hj : 4 * j + 4 ≤ L) (hJ : J (n + 1) σ) : lawS L xs J n j σ 577 := by
  intro v5 v6
  obtain ⟨h0, h1, h2, h3, h4, h5, h6, h7, h8, h9, h10, h11, h12, h13, h14, h15, h16, h17, h18⟩ := hO
  rw [e441_577 1495]
  have c1 : ∀ {a b : tvR}, cond (pv_in (i32 (4 * j : Nat) + 1) L) a b = a := fun {a b} => law_in hL (z := 4 * j) (w := 1) (by omega)
  rw [c1]
  obtain ⟨x, σ1, σ2, r1, r2, hJ2⟩ := h10 (xs (ix (i32 (4 * j : Nat) + 1))) n σ hJ
  rw [bI_ok r1]
  rw [c1]
  rw [bI_ok r2, c2_refl]
  exact ⟨_, _, σ2, rfl, hJ2⟩
theorem law_11 (hL : L ≤ 256) (hO : OPS L xs J) {n j : Nat} {σ : tvS} (hj : 4 * j + 4 ≤ L) (hJ : J (n + 1) σ) : lawS L xs J n j σ 602 := by
  intro v5 v6
  obtain ⟨h0, h1, h2, h3, h4, h5, h6, h7, h8, h9, h10, h11, h12, h13, h14, h15, h16, h17, h18⟩ := hO
  rw [e441_602 1495]
  obtain ⟨k, σ1, σ2, r1, r2, r3, hJ2⟩ := h11  n σ hJ
  rw [bI_ok r1, bV_ok r2, bI_ok (e282_0 1494 σ2), r3, c2_refl]
  exact ⟨_, _, σ2, e441_623 1495 σ2 _ _ _, hJ2⟩
theorem law_12 (hL : L ≤ 256) (hO : OPS L xs J) {n j : Nat} {σ : tvS} (hj : 4 * j + 4 ≤ L) (hJ : J (n + 1) σ) : lawS L xs J n j σ 626 := by
  intro v5 v6
  obtain ⟨h0, h1, h2, h3, h4, h5, h6, h7, h8, h9, h10, h11, h12, h13, h14, h15, h16, h17, h18⟩ := hO
  rw [e441_626 1495]
  have c1 : ∀ {a b : tvR}, cond (pv_in (i32 (4 * j : Nat) + 1) L) a b = a := fun {a b} => law_in hL (z := 4 * j) (w := 1) (by omega)
  rw [c1]
  obtain ⟨k, b, σ1, σ2, r1, r2, r3, r4, hJ2⟩ := h12 (xs (ix (i32 (4 * j : Nat) + 1))) n σ hJ
  rw [bI_ok r1]
  rw [c1]
  rw [bI_ok r2, bI_ok (e282_0 1494 σ2), r3, c2_refl]
  exact ⟨_, _, σ2, law_end (e441_662 1495 σ2 _ k b) (e441_679 1495 σ2 _ _ _) r4, hJ2⟩
theorem law_13 (hL : L ≤ 256) (hO : OPS L xs J) {n j : Nat} {σ : tvS} (hj : 4 * j + 4 ≤ L) (hJ : J (n + 1) σ) : lawS L xs J n j σ 682 := by
  intro v5 v6
  obtain ⟨h0, h1, h2, h3, h4, h5, h6, h7, h8, h9, h10, h11, h12, h13, h14, h15, h16, h17, h18⟩ := hO
  rw [e441_682 1495]
  obtain ⟨x, σ1, σ2, r1, r2, hJ2⟩ := h13  n σ hJ
  rw [bI_ok r1]
  rw [bI_ok r2, c2_refl]
  exact ⟨_, _, σ2, rfl, hJ2⟩
theorem law_14 (hL : L ≤ 256) (hO : OPS L xs J) {n j : Nat} {σ : tvS} (hj : 4 * j + 4 ≤ L) (hJ : J (n + 1) σ) : lawS L xs J n j σ 695 := by
  intro v5 v6
  obtain ⟨h0, h1, h2, h3, h4, h5, h6, h7, h8, h9, h10, h11, h12, h13, h14, h15, h16, h17, h18⟩ := hO
  rw [e441_695 1495]
  have c1 : ∀ {a b : tvR}, cond (pv_in (i32 (4 * j : Nat) + 1) L) a b = a := fun {a b} => law_in hL (z := 4 * j) (w := 1) (by omega)
  rw [c1]
  obtain ⟨x, σ1, σ2, r1, r2, hJ2⟩ := h14 (xs (ix (i32 (4 * j : Nat) + 1))) n σ hJ
  rw [bI_ok r1]
  rw [c1]
  rw [bI_ok r2, c2_refl]
  exact ⟨_, _, σ2, rfl, hJ2⟩
theorem law_15 (hL : L ≤ 256) (hO : OPS L xs J) {n j : Nat} {σ : tvS} (hj : 4 * j + 4 ≤ L) (hJ : J (n + 1) σ) : lawS L xs J n j σ 720 := by
  intro v5 v6
  obtain ⟨h0, h1, h2, h3, h4, h5, h6, h7, h8, h9, h10, h11, h12, h13, h14, h15, h16, h17, h18⟩ := hO
  rw [e441_720 1495]
  have c1 : ∀ {a b : tvR}, cond (pv_in (i32 (4 * j : Nat) + 1) L) a b = a := fun {a b} => law_in hL (z := 4 * j) (w := 1) (by omega)
  have c2 : ∀ {a b : tvR}, cond (pv_in (i32 (4 * j : Nat) + 2) L) a b = a := fun {a b} => law_in hL (z := 4 * j) (w := 2) (by omega)
  rw [c1, c2]
  obtain ⟨x, σ1, σ2, r1, r2, hJ2⟩ := h15 (xs (ix (i32 (4 * j : Nat) + 1))) (xs (ix (i32 (4 * j : Nat) + 2))) n σ hJ
  rw [bI_ok r1]
  rw [c1, c2]
  rw [bI_ok r2, c2_refl]
  exact ⟨_, _, σ2, rfl, hJ2⟩
theorem law_16 (hL : L ≤ 256) (hO : OPS L xs J) {n j : Nat} {σ : tvS} (hj : 4 * j + 4 ≤ L) (hJ : J (n + 1) σ) : lawS L xs J n j σ 757 := by
  intro v5 v6
  obtain ⟨h0, h1, h2, h3, h4, h5, h6, h7, h8, h9, h10, h11, h12, h13, h14, h15, h16, h17, h18⟩ := hO
  rw [e441_757 1495]
  obtain ⟨x, σ1, σ2, r1, r2, hJ2⟩ := h16  n σ hJ
  rw [bI_ok r1]
  rw [bI_ok r2, c2_refl]
  exact ⟨_, _, σ2, rfl, hJ2⟩
theorem law_17 (hL : L ≤ 256) (hO : OPS L xs J) {n j : Nat} {σ : tvS} (hj : 4 * j + 4 ≤ L) (hJ : J (n + 1) σ) : lawS L xs J n j σ 770 := by
  intro v5 v6
  obtain ⟨h0, h1, h2, h3, h4, h5, h6, h7, h8, h9, h10, h11, h12, h13, h14, h15, h16, h17, h18⟩ := hO
  rw [e441_770 1495]
  obtain ⟨x, σ1, σ2, r1, r2, hJ2⟩ := h17  n σ hJ
  rw [bI_ok r1]
  rw [bI_ok r2, c2_refl]
  exact ⟨_, _, σ2, rfl, hJ2⟩
theorem law_18 (hL : L ≤ 256) (hO : OPS L xs J) {n j : Nat} {σ : tvS} (hj : 4 * j + 4 ≤ L) (hJ : J (n + 1) σ) : lawS L xs J n j σ 783 := by
  intro v5 v6
  obtain ⟨h0, h1, h2, h3, h4, h5, h6, h7, h8, h9, h10, h11, h12, h13, h14, h15, h16, h17, h18⟩ := hO
  rw [e441_783 1495]
  obtain ⟨k, b, σ1, σ2, r1, r2, r3, r4, hJ2⟩ := h18  n σ hJ
  rw [bI_ok r1]
  rw [bI_ok r2, bI_ok (e282_0 1494 σ2), r3, c2_refl]
  exact ⟨_, _, σ2, law_end (e441_807 1495 σ2 _ k b) (e441_824 1495 σ2 _ _ _) r4, hJ2⟩
theorem law_one (hL : L ≤ 256) (hO : OPS L xs J) {n j : Nat} {σ : tvS} (hj : 4 * j + 4 ≤ L) (hJ : J (n + 1) σ) (hw : J (n + 1) σ → J n σ) (m : Nat) (hm : m < 32) : lawS L xs J n j σ (lawT m) := by
  have hd : lawS L xs J n j σ 827 := fun v5 v6 => ⟨v5, v6, σ, rfl, hw hJ⟩
  match m, hm with
  | 0, _ => exact law_0 hL hO hj hJ
  | 1, _ => exact law_1 hL hO hj hJ
  | 2, _ => exact law_2 hL hO hj hJ
  | 3, _ => exact law_3 hL hO hj hJ
  | 4, _ => exact law_4 hL hO hj hJ
  | 5, _ => exact law_5 hL hO hj hJ
  | 6, _ => exact law_6 hL hO hj hJ
  | 7, _ => exact law_7 hL hO hj hJ
  | 8, _ => exact law_8 hL hO hj hJ
  | 9, _ => exact law_9 hL hO hj hJ
  | 10, _ => exact law_10 hL hO hj hJ
  | 11, _ => exact law_11 hL hO hj hJ
  | 12, _ => exact law_12 hL hO hj hJ
  | 13, _ => exact law_13 hL hO hj hJ
  | 14, _ => exact law_14 hL hO hj hJ
  | 15, _ => exact law_15 hL hO hj hJ
  | 16, _ => exact law_16 hL hO hj hJ
  | 17, _ => exact law_17 hL hO hj hJ
  | 18, _ => exact law_18 hL hO hj hJ
  | 19, _ => exact hd
  | 20, _ => exact hd
  | 21, _ => exact hd
  | 22, _ => exact hd
  | 23, _ => exact hd
  | 24, _ => exact hd
  | 25, _ => exact hd
  | 26, _ => exact hd
  | 27, _ => exact hd
  | 28, _ => exact hd
  | 29, _ => exact hd
  | 30, _ => exact hd
  | 31, _ => exact hd
  | m + 32, h => exact absurd h (by omega)
theorem law_fin (hL : L ≤ 256) {j : Nat} {σ : tvS} {v5 v6 : Value} (h0 : 4 * j ≤ L) (h1 : L < 4 * j + 4) : rn L xs 1496 441 23 [.retAddr 0, .ref 0, .ref 123, .ref 238, .int (i32 (4 * j : Nat)), v5, v6] [] σ = some (.inl (some (.int 1)), σ) := by
  rw [e441_23 1495, i32_nat, show (4 : Int32) = i32 4 from rfl, i32_sub, c2_gt (by omega) (by omega) (by omega) (by omega), c_t (by omega), e441_833 1495]
theorem law_loop (hL : L ≤ 256) (hO : OPS L xs J) (hw : ∀ n σ, J (n + 1) σ → J n σ) : ∀ (m n j : Nat) (σ : tvS) (v5 v6 : Value), 4 * j ≤ L → L < 4 * j + 4 * m + 4 → m ≤ n → J n σ → ∃ σ', rn L xs 1496 441 23 [.retAddr 0, .ref 0, .ref 123, .ref 238, .int (i32 (4 * j : Nat)), v5, v6] [] σ = some (.inl (some (.int 1)), σ') := by
  intro m
  induction m with
  | zero =>
    intro n j σ v5 v6 h0 h1 h2 hJ
    exact ⟨σ, law_fin hL h0 (by omega)⟩
  | succ m ih =>
    intro n j σ v5 v6 h0 h1 h2 hJ
    by_cases hj : 4 * j + 4 ≤ L
    · obtain ⟨n', rfl⟩ : ∃ n', n = n' + 1 := ⟨n - 1, by omega⟩
      rw [e441_23 1495, i32_nat, show (4 : Int32) = i32 4 from rfl, i32_sub, c2_gt (by omega) (by omega) (by omega) (by omega), c_f (by omega), c_in (by omega) (by omega) (by omega)]
      obtain ⟨m0, hm0, e0⟩ := and_31 (xs (ix (i32 (4 * j : Nat))))
      rw [e0, swk_of (law_sw m0 hm0)]
      obtain ⟨w5, w6, σ', e1, hJ'⟩ := law_one hL hO hj hJ (hw n' σ) m0 hm0 v5 v6
      rw [e1, e441_827 1495, show (4 : Int32) = i32 4 from rfl, i32_add, show ((4 * j : Nat) : Int) + 4 = ((4 * (j + 1) : Nat) : Int) by omega]
      exact ih n' (j + 1) σ' w5 w6 (by omega) (by omega) (by omega) hJ'
    · exact ⟨σ, law_fin hL h0 (by omega)⟩
end LAW
/-- what is left: a joint invariant that the calls keep -/
theorem lawrun_of (J : Nat → tvS → Prop) (h0 : J 64 σ0) (hw : ∀ n σ, J (n + 1) σ → J n σ) (hO : ∀ (L : Nat) (xs : Nat → Int32), L ≤ 256 → OPS L xs J) : LAWRUN := by
  intro L xs hL
  obtain ⟨σ', h⟩ := law_loop hL (hO L xs hL) hw 64 64 0 σ0 jv jv (by omega) (by omega) (by omega) h0
  exact ⟨σ', (e441_20 1495 σ0 jv jv jv).trans h⟩
