/-! LEXEMES: cutting a tape -/
section LEXA
variable {L : Nat} {xs : Nat → Int32} {c : Nat → Nat} {N : Nat} {σ τ σ' τ' : tvS}
theorem ctext_loop (hN : N ≤ 3000) (d : Nat) : ∀ (k i : Nat) (σ : tvS) (v3 : Value), i + k = N → rd σ 6 3 = i32 N → (∀ j, j < N → rd σ 2 j = by8 (i32 (c j))) → (∀ j, j < i → rd σ 9 j = by8 (i32 (c j))) →
    ∃ σ' w2 w3, rn L xs (d + 2) 47 10 [.ref 6, .ref 1, .int (i32 i), v3] [] σ = rn L xs (d + 2) 47 36 [.ref 6, .ref 1, w2, w3] [] σ' ∧ (∀ j, j < N → rd σ' 9 j = by8 (i32 (c j))) ∧ (∀ k j, k ≠ 9 → rd σ' k j = rd σ k j) ∧ σ'.2 = σ.2 := by
  intro k
  induction k with
  | zero =>
    intro i σ v3 hi h1 h2 h3
    have hi : i = N := hi
    subst hi
    refine ⟨σ, .int (i32 i), v3, ?_, h3, fun _ _ _ => rfl, rfl⟩
    rw [e47_10 (d + 1), h1, c2_ge (by omega) (by omega) (by omega) (by omega), c_t (by omega)]
  | succ k ih =>
    intro i σ v3 hi h1 h2 h3
    have e37 : rn L xs (d + 1) 37 0 [.ref 1, .int (i32 i)] [] σ = some (.inl (some (.int (by8 (i32 (c i))))), σ) := by
      rw [e37b_0, c_in (by omega) (by omega) (by omega), i32_ixn (by omega), h2 i (by omega)]
    rw [e47_10 (d + 1), h1, c2_ge (by omega) (by omega) (by omega) (by omega), c_f (by omega), bI_ok e37, c_in (by omega) (by omega) (by omega), i32_ixn (by omega), nar_by8, by8_by8, i32_n1]
    obtain ⟨σ', w2, w3, r1, r2, r3, r4⟩ := ih (i + 1) (wr σ 9 i (by8 (i32 (c i)))) (dj v3) (by omega) (by rw [wr_nek (by decide)]; exact h1) (fun j hj => by rw [wr_nek (by decide)]; exact h2 j hj) (fun j hj => by
      by_cases q : j = i
      · rw [q, wr_self]
      · rw [wr_nei q]; exact h3 j (by omega))
    exact ⟨σ', w2, w3, r1, r2, fun k' j hk => (r3 k' j hk).trans (wr_nek hk), r4⟩
theorem mtext_loop (hN : N ≤ 3000) (d : Nat) : ∀ (k i : Nat) (τ : tvS) (v2 : Value), i + k = N → rd τ 123 1 = i32 N → (∀ j, j < i → rd τ 130 j = rd τ 124 j) →
    ∃ τ' w1, rn L xs (d + 1) 284 10 [.ref 123, .int (i32 i), v2] [] τ = rn L xs (d + 1) 284 36 [.ref 123, w1, v2] [] τ' ∧ (∀ j, j < N → rd τ' 130 j = rd τ 124 j) ∧ (∀ k j, k ≠ 130 → rd τ' k j = rd τ k j) ∧ τ'.2 = τ.2 := by
  intro k
  induction k with
  | zero =>
    intro i τ v2 hi h1 h3
    have hi : i = N := hi
    subst hi
    refine ⟨τ, .int (i32 i), ?_, h3, fun _ _ _ => rfl, rfl⟩
    rw [e284_10 d, h1, c2_ge (by omega) (by omega) (by omega) (by omega), c_t (by omega)]
  | succ k ih =>
    intro i τ v2 hi h1 h3
    rw [e284_10 d, h1, c2_ge (by omega) (by omega) (by omega) (by omega), c_f (by omega), c_in (by omega) (by omega) (by omega), c_in (by omega) (by omega) (by omega), i32_ixn (by omega), i32_n1]
    obtain ⟨τ', w1, r1, r2, r3, r4⟩ := ih (i + 1) (wr τ 130 i (rd τ 124 i)) v2 (by omega) (by rw [wr_nek (by decide)]; exact h1) (fun j hj => by
      rw [wr_nek (k' := 124) (by decide)]
      by_cases q : j = i
      · rw [q, wr_self]
      · rw [wr_nei q]; exact h3 j (by omega))
    exact ⟨τ', w1, r1, fun j hj => (r2 j hj).trans (wr_nek (by decide)), fun k' j hk => (r3 k' j hk).trans (wr_nek hk), r4⟩
/-- all lexemes of a text, with the end -/
def LXE (c : Nat → Nat) (N m nm : Nat) (σ τ : tvS) : Prop := TX c N σ τ ∧ m ≤ N ∧ rd σ 6 9 = i32 m ∧ rd τ 123 8 = i32 (m + 1 : Nat) ∧ (∀ k, k < m → lexR c N nm σ τ k) ∧ rd σ 10 m = 0 ∧ rd σ 11 m = 0 ∧ rd σ 13 m = i32 N ∧ rd τ 126 m = 36 ∧ rd τ 127 m = i32 N ∧
  (∀ w w', w < nm → w' < nm → pkR c N τ w = pkR c N τ w' → w = w') ∧ (∀ k, k < m → (rd σ 14 k).toInt ≤ (rd σ 13 (k + 1)).toInt) ∧ nm ≤ m
def frLC2 (σ σ' : tvS) : Prop := (∀ k i, ¬ (k = 9 ∨ k = 10 ∨ k = 11 ∨ k = 13 ∨ k = 14 ∨ (k = 6 ∧ (i = 3 ∨ i = 9))) → rd σ' k i = rd σ k i) ∧ (∀ k i, k ≠ 12 → rl σ' k i = rl σ k i) ∧ σ'.2.2 = σ.2.2
theorem cut_ok (d : Nat) (hN : N ≤ 3000) (hc : ∀ i, i < N → 1 ≤ c i ∧ c i ≤ 255) (c1 : rd σ 1 1 = i32 N) (c2 : ∀ i, i < N → rd σ 2 i = by8 (i32 (c i))) (c3 : ∀ w, w < 13 → rl σ 8 w = rl0 8 w)
    (m1 : rd τ 123 13 = i32 N) (m2 : ∀ i, i < N → rd τ 130 i = i32 (c i)) (m3 : rd τ 123 5 = 0) :
    (∃ m nm σ' τ', LXE c N m nm σ' τ' ∧ rn L xs (d + 4) 47 0 [.ref 6, .ref 1, jv, jv] [] σ = some (.inl (some (.int (i32 (-1)))), σ') ∧ rn L xs (d + 5) 285 0 [.ref 123, jv, jv, jv, jv] [] τ = some (.inl none, τ') ∧ rd τ' 123 5 = 0 ∧ frLC2 σ σ' ∧ frLM τ τ' ∧ m ≤ (cst c N).2) ∨
    (∃ p σ' τ', p < N ∧ rn L xs (d + 4) 47 0 [.ref 6, .ref 1, jv, jv] [] σ = some (.inl (some (.int (i32 (p : Nat)))), σ') ∧ rn L xs (d + 5) 285 0 [.ref 123, jv, jv, jv, jv] [] τ = some (.inl none, τ') ∧ rd τ' 123 5 = 1 ∧ rd τ' 123 6 = i32 (p : Nat) ∧ frLC2 σ σ' ∧ frLM τ τ') := by
  rw [e47_0 (d + 3), bI_ok (e36_0 (d + 2) σ), c1]
  obtain ⟨σ1, w2, w3, r1, r2, r3, r4⟩ := ctext_loop (L := L) (xs := xs) (c := c) hN (d + 2) N 0 (wr σ 6 3 (i32 N)) (dj jv) (by omega) (wr_self _ _ _ _) (fun j hj => by rw [wr_nek (by decide)]; exact c2 j hj) (fun j hj => absurd hj (Nat.not_lt_zero _))
  have r1 : rn L xs (d + 4) 47 10 [.ref 6, .ref 1, .int 0, dj jv] [] (wr σ 6 3 (i32 N)) = _ := r1
  rw [r1, e47_36 (d + 3), e285_0 (d + 4)]
  have h0 : LX c N 0 0 0 (wr σ1 6 9 0) (wr (wr τ 123 8 0) 123 15 0) := by
    refine ⟨⟨hN, ?_, ?_, fun i hi => ⟨(hc i hi).1, (hc i hi).2, ?_, ?_⟩⟩, fun w hw => ?_, wr_self _ _ _ _, by rw [wr_nei (by decide), wr_self]; rfl, wr_self _ _ _ _, by rw [wr_nei (by decide), wr_nei (by decide)]; exact m3, Nat.le_refl _, Nat.zero_le _, Nat.le_refl _, fun k hk => absurd hk (Nat.not_lt_zero _), fun k hk => absurd hk (Nat.not_lt_zero _), fun w w' hw => absurd hw (Nat.not_lt_zero _), fun k hk => absurd hk (Nat.not_lt_zero _), fun k hk => absurd hk (by omega)⟩
    · rw [wr_nei (by decide), r3 6 3 (by decide), wr_self]
    · rw [wr_nei (by decide), wr_nei (by decide)]; exact m1
    · rw [wr_nek (by decide)]; exact r2 i hi
    · rw [wr_nek (by decide), wr_nek (by decide)]; exact m2 i hi
    · show rl σ1 8 w = _
      have : rl σ1 8 w = rl (wr σ 6 3 (i32 N)) 8 w := by unfold rl; rw [r4]
      rw [this]
      exact c3 w hw
  have fC : frLC2 σ (wr σ1 6 9 0) := by
    refine ⟨fun k i q => ?_, fun k i q => ?_, ?_⟩
    · rw [rd_wr, if_neg (by omega), r3 k i (by omega), rd_wr, if_neg (by omega)]
    · show rl σ1 k i = _
      unfold rl
      rw [r4]
      rfl
    · show σ1.2.2 = _
      rw [r4]
      rfl
  have fM : frLM τ (wr (wr τ 123 8 0) 123 15 0) := by
    refine ⟨fun k i q => ?_, rfl⟩
    simp only [rd_wr]
    rw [if_neg (by omega), if_neg (by omega)]
  have up : ∀ {a b : tvS}, frLC a b → frLC2 a b := fun h => ⟨fun k i q => h.1 k i (by omega), h.2.1, h.2.2⟩
  have tr : ∀ {a b e : tvS}, frLC2 a b → frLC2 b e → frLC2 a e := fun h h' => ⟨fun k i q => (h'.1 k i q).trans (h.1 k i q), fun k i q => (h'.2.1 k i q).trans (h.2.1 k i q), h'.2.2.trans h.2.2⟩
  rcases lex_loop (L := L) (xs := xs) (c := c) (N := N) d N 0 0 0 _ _ (jk (.ref 1)) w3 jv jv jv (by omega) h0 ⟨rfl, Nat.le_refl _⟩ with ⟨m, nm, σ2, τ2, w1, w2', w3', y1, y2, y3, y4, ⟨g1, gN⟩, g2, g3, g4, g5⟩ | ⟨p, σ2, τ2, y1, y2, y3, y4, g0, g1, g2, g3, g4, g5⟩
  · left
    have g4 : rn L xs (d + 4) 47 43 [.ref 6, jk (.ref 1), .int 0, w3] [] (wr σ1 6 9 0) = _ := g4
    have g5 : rn L xs (d + 5) 285 12 [.ref 123, .int 0, jv, jv, jv] [] (wr (wr τ 123 8 0) 123 15 0) = _ := g5
    obtain ⟨x1, x2, x3, x4, x5, x6, x7, x8, x9, x10, x11, x12, x13, x14⟩ := g1
    rw [g4, g5, e47_150 (d + 3), x3, c_in (by omega) (by omega) (by omega), c_in (by omega) (by omega) (by omega), c_in (by omega) (by omega) (by omega), c_in (by omega) (by omega) (by omega), i32_ixn (by omega), x1.2.1, e285_242 (d + 4), x1.2.2.1, bV_ok (madd_ok x4 (by omega) (d + 3) _ _ _ _)]
    obtain ⟨j1, j2, j3, j4, j5, j6, j7, j8⟩ := mAdd_at (τ := τ2) (m := m) (μ := 36) (s := i32 N) (n := 0) (w := 0)
    have fE : frLC σ2 (wr (wr (wr (wr σ2 10 m 0) 11 m 0) 13 m (i32 N)) 14 m (i32 N)) := by
      refine ⟨fun k i q => ?_, fun _ _ _ => rfl, rfl⟩
      simp only [rd_wr]
      rw [if_neg (by omega), if_neg (by omega), if_neg (by omega), if_neg (by omega)]
    refine ⟨m, nm, _, _, ⟨x1.fr fE fr_mAdd, x7, ?_, j5, fun k hk => (x10 k hk).fr (Nat.le_refl _) (fun j => ?_) (fun j => rfl) (fun j hj hj2 => ?_) (fun w _ => j8 w), ?_, ?_, ?_, j1, j2, fun w w' hw hw' e => x12 w w' hw hw' ?_, fun k hk => ?_, x9⟩, rfl, rfl, j7.trans x6, tr fC (tr (up g2) (up fE)), fM.trans (g3.trans fr_mAdd), gN.2⟩
    · rw [wr_nek (by decide), wr_nek (by decide), wr_nek (by decide), wr_nek (by decide)]; exact x3
    · rw [wr_nei (by omega), wr_nei (by omega), wr_nei (by omega), wr_nei (by omega)]
    · rw [mAdd_ne (by omega) hj2]
    · simp [rd_wr]
    · simp [rd_wr]
    · simp [rd_wr]
    · unfold pkR at e ⊢; rw [j8, j8] at e; exact e
    · rw [wr_nei (by omega), wr_nek (by decide), wr_nek (by decide), wr_nek (by decide)]
      by_cases q : k + 1 = m
      · rw [q, wr_nek (by decide), wr_self, i32_ti (by omega) (by omega)]
        exact x14 k q
      · rw [wr_nek (by decide), wr_nei q, wr_nek (by decide), wr_nek (by decide)]
        exact x13 k (by omega)
  · right
    have g4 : rn L xs (d + 4) 47 43 [.ref 6, jk (.ref 1), .int 0, w3] [] (wr σ1 6 9 0) = _ := g4
    have g5 : rn L xs (d + 5) 285 12 [.ref 123, .int 0, jv, jv, jv] [] (wr (wr τ 123 8 0) 123 15 0) = _ := g5
    obtain ⟨q1, q2, m', q3, q4⟩ := g1
    rw [g4, g5, e285_242 (d + 4), bV_ok (madd_ok q4 (by omega) (d + 3) _ _ _ _)]
    obtain ⟨j1, j2, j3, j4, j5, j6, j7, j8⟩ := mAdd_at (τ := τ2) (m := m') (μ := 36) (s := rd τ2 123 13) (n := 0) (w := 0)
    refine ⟨p, σ2, _, g0, rfl, rfl, j7.trans q1, ?_, tr fC (up g2), fM.trans (g3.trans fr_mAdd)⟩
    unfold mAdd
    simp only [rd_wr, Nat.reduceEqDiff, false_and, and_false, if_false, true_and]
    exact q2
end LEXA
