/-! LEXEMES: numbers, comments, blanks, signs; the loop -/
def sgB (a b : Nat) : Bool := cond (Nat.beq (sgK a b) 0) (Nat.beq (sg2 a b) 0 && !(sg1 a)) (Nat.ble 20 (sgK a b) && (Nat.ble (sgK a b) 35 && (Nat.ble a 124 && cond (Nat.beq (sg2 a b) 0) (sg1 a && (Nat.ble 24 (sgK a b) && Nat.beq (sgC (sgK a b)) a)) (Nat.ble (sgK a b) 23 && (Nat.beq (sgC (sgK a b)) (sg2 a b) && (Nat.ble 1 b && Nat.ble b 124))))))
theorem sgB_ok : ((List.range 256).all fun a => (List.range 256).all fun b => sgB a b) = true := by decide +kernel
theorem sg_rel {a b : Nat} (ha : a ≤ 255) (hb : b ≤ 255) : (sgK a b = 0 ∧ sg2 a b = 0 ∧ sg1 a = false) ∨ (20 ≤ sgK a b ∧ sgK a b ≤ 35 ∧ a ≤ 124 ∧ ((sg2 a b = 0 ∧ sg1 a = true ∧ 24 ≤ sgK a b ∧ sgC (sgK a b) = a) ∨ (sg2 a b ≠ 0 ∧ sgK a b ≤ 23 ∧ sgC (sgK a b) = sg2 a b ∧ 1 ≤ b ∧ b ≤ 124))) := by
  have h := List.all_eq_true.mp (List.all_eq_true.mp sgB_ok a (List.mem_range.mpr (by omega))) b (List.mem_range.mpr (by omega))
  unfold sgB at h
  cases e1 : Nat.beq (sgK a b) 0 with
  | true =>
    rw [e1, cond_true, Bool.and_eq_true, Bool.not_eq_true'] at h
    exact Or.inl ⟨Nat.eq_of_beq_eq_true e1, Nat.eq_of_beq_eq_true h.1, h.2⟩
  | false =>
    rw [e1, cond_false] at h
    simp only [Bool.and_eq_true, Nat.ble_eq] at h
    obtain ⟨h1, h2, h3, h4⟩ := h
    refine Or.inr ⟨h1, h2, h3, ?_⟩
    cases e2 : Nat.beq (sg2 a b) 0 with
    | true =>
      rw [e2, cond_true] at h4
      simp only [Bool.and_eq_true, Nat.ble_eq] at h4
      exact Or.inl ⟨Nat.eq_of_beq_eq_true e2, h4.1, h4.2.1, Nat.eq_of_beq_eq_true h4.2.2⟩
    | false =>
      rw [e2, cond_false] at h4
      simp only [Bool.and_eq_true, Nat.ble_eq] at h4
      exact Or.inr ⟨fun q => (by rw [q] at e2; cases e2), h4.1, Nat.eq_of_beq_eq_true h4.2.1, h4.2.2.1, h4.2.2.2⟩
section LEX8
variable {L : Nat} {xs : Nat → Int32} {c : Nat → Nat} {N : Nat} {σ τ σ' τ' : tvS}
theorem cnum_ok (h : TX c N σ τ) {m : Nat} (hm : rd σ 6 9 = i32 m) (hlt : m < 3001) (d a : Nat) (ha : a < N) (hl : ltr (c a) = false) (hd : dgt (c a) = true) : rn L xs (d + 3) 48 0 [.ref 6, .int (i32 a), jv] [] σ =
    if 9 < rdg c N a then some (.inl (some (.int (i32 (-1)))), σ) else
    some (.inl (some (.int (i32 (a + rdg c N a : Nat)))), cAdd (wr σ 11 m (dv c a (rdg c N a))) m 2 (i32 a) (i32 (a + rdg c N a : Nat))) := by
  have hN := h.1
  have hle : a + rdg c N a ≤ N := run_le (by omega)
  rw [e48_0 (d + 2), bI_ok (here_ok h (d + 1) a (by omega)), hh_eq ha, bI_ok (isLetter_ok (h.2.2.2 a ha).2.1 (d + 1) σ), hl, c1_eq_bN, cond_false, e48_19 (d + 2), bI_ok (isDigit_ok (h.2.2.2 a ha).2.1 (d + 1) σ), hd, c1_eq_bN, cond_true, e54_0 (d + 1)]
  have e1 := cnum_loop (L := L) (xs := xs) h d a (by omega) (rdg c N a) 0 (by omega)
  have e1 : rn L xs (d + 2) 54 4 [.ref 6, .int (i32 a), .int (i32 a), .int 0] [] σ = _ := e1
  rw [e1, e54_43 (d + 1), i32_sub, show (9 : Int32) = i32 9 from rfl, c2_le (by omega) (by omega) (by omega) (by omega)]
  by_cases q : 9 < rdg c N a
  · rw [if_pos q, c_f (by omega)]
    rfl
  · have hm2 : ∀ v, rd (wr σ 11 m v) 6 9 = i32 m := fun v => by rw [wr_nek (by decide)]; exact hm
    rw [if_neg q, c_t (by omega), e54_53 (d + 1), hm, c_in (by omega) (by omega) (by omega), i32_ixn (by omega), bV_ok (cadd_ok (hm2 _) hlt d _ _ _), show min (rdg c N a) 9 = rdg c N a by omega]
    rfl
theorem lex_num {a m nm : Nat} (h : LX c N a m nm σ τ) (d : Nat) (ha : a < N) (hl : ltr (c a) = false) (hd : dgt (c a) = true) (v2 v4 : Value) :
    (∃ w2 w4, rn L xs (d + 3) 48 0 [.ref 6, .int (i32 a), jv] [] σ = some (.inl (some (.int (i32 (-1)))), σ) ∧ rn L xs (d + 5) 285 91 [.ref 123, .int (i32 a), v2, .int 1, v4] [] τ = rn L xs (d + 5) 285 235 [.ref 123, .int (i32 a), w2, .int (i32 (rdg c N a)), w4] [] (wr (wr τ 123 5 1) 123 6 (i32 a))) ∨
    (∃ n σ' τ' w2 w4, (1 ≤ n ∧ TKc c a n) ∧ rn L xs (d + 3) 48 0 [.ref 6, .int (i32 a), jv] [] σ = some (.inl (some (.int (i32 (a + n : Nat)))), σ') ∧ rn L xs (d + 5) 285 91 [.ref 123, .int (i32 a), v2, .int 1, v4] [] τ = rn L xs (d + 5) 285 235 [.ref 123, .int (i32 a), w2, .int (i32 n), w4] [] τ' ∧ LX c N (a + n) (m + 1) nm σ' τ' ∧ frLC σ σ' ∧ frLM τ τ') := by
  have hh0 := h
  obtain ⟨x1, x2, x3, x4, x5, x6, x7, x8, x9, x10, x11, x12, x13, x14⟩ := h
  have hN := x1.1
  have htk : TKc c a (rdg c N a) := fun i h1 h2 => by
    have hr := run_at (p := dg c N) (N := N) (s := a) (i := i - a) (by show i - a < rdg c N a; omega)
    rw [show a + (i - a) = i by omega] at hr
    have hle : a + rdg c N a ≤ N := run_le (by omega)
    unfold dg at hr
    rw [hh_eq (by omega)] at hr
    unfold dgt at hr
    simp only [Bool.and_eq_true, Nat.ble_eq] at hr
    omega
  have hle : a + rdg c N a ≤ N := run_le (by omega)
  have hal : dg c N a = true := by unfold dg; rw [hh_eq ha, hd]
  have h1 : 1 ≤ rdg c N a := by
    have he : dg c N (a + rdg c N a) = false := run_end (by omega) dg_N
    apply Classical.byContradiction
    intro q
    rw [show a + rdg c N a = a by omega, hal] at he
    cases he
  have hc := cnum_ok (L := L) (xs := xs) x1 x3 (by omega) d a ha hl hd
  obtain ⟨w2, w4, e1⟩ := mnum_loop (L := L) (xs := xs) x1 (d + 2) a (by omega) (rdg c N a - 1) 1 v2 v4 (by omega)
  have e1 : rn L xs (d + 5) 285 91 [.ref 123, .int (i32 a), v2, .int 1, v4] [] τ = _ := e1
  have hasc : ∀ i, a ≤ i → i < a + rdg c N a → c i < 128 := fun i hi hi2 => by
    have : dg c N (a + (i - a)) = true := run_at (show i - a < rdg c N a by omega)
    rw [show a + (i - a) = i by omega] at this
    have := (dg_c this).2.2.2
    omega
  by_cases q : 9 < rdg c N a
  · left
    rw [if_pos q] at hc
    refine ⟨dj w2, dj w4, hc, ?_⟩
    rw [e1, e285_110 (d + 4), e296_0 (d + 3), show (9 : Int32) = i32 9 from rfl, c2_le (by omega) (by omega) (by omega) (by omega), c_f (by omega), bV_ok (mfail_ok x6 (d + 2) _ _)]
    rfl
  · right
    rw [if_neg q] at hc
    obtain ⟨k1, k2, k3, k4, k5, k6⟩ := cAdd_at (σ := wr σ 11 m (dv c a (rdg c N a))) (m := m) (κ := 2) (s := i32 a) (e := i32 (a + rdg c N a : Nat))
    obtain ⟨j1, j2, j3, j4, j5, j6, j7, j8⟩ := mAdd_at (τ := τ) (m := m) (μ := 2) (s := i32 a) (n := i32 (rdg c N a)) (w := dv c a (rdg c N a))
    refine ⟨rdg c N a, _, mAdd τ m 2 (i32 a) (i32 (rdg c N a)) (dv c a (rdg c N a)), dj w2, dj w4, ⟨h1, htk⟩, hc, ?_, ?_, fr_w11.trans fr_cAdd, fr_mAdd⟩
    · have e2 := mnum_val (L := L) (xs := xs) x1 (d + 3) a (rdg c N a) hle (rdg c N a) 0 (by omega)
      have e2 : rn L xs (d + 4) 296 18 [.ref 123, .int (i32 a), .int (i32 (rdg c N a)), .int 0, .int (i32 a)] [] τ = _ := e2
      rw [e1, e285_110 (d + 4), e296_0 (d + 3), show (9 : Int32) = i32 9 from rfl, c2_le (by omega) (by omega) (by omega) (by omega), c_t (by omega), e296_13 (d + 3), e2, e296_48 (d + 3), bV_ok (madd_ok x4 (by omega) (d + 2) _ _ _ _)]
      rfl
    · refine hh0.push (by omega) hle (fr_w11.trans fr_cAdd) fr_mAdd (Nat.le_refl _) (by omega) (fun j k hk h6 => by rw [cAdd_ne hk h6, wr_nei hk]) (fun j k _ => rfl) k6 (fun j k hk h1 h2 => mAdd_ne hk h2) (fun w _ => j8 w) j5 (j6.trans x5) (j7.trans x6) k2 k3 ?_ (fun w h1 h2 => by omega)
      refine ⟨a, a + rdg c N a, 2, by omega, hle, k2, k3, j2, by rw [j3]; congr 2; omega, j1, hasc, fun q => absurd rfl q, fun _ => rfl, Or.inr (Or.inl ⟨rfl, k1, ?_⟩)⟩
      rw [k4, j4, wr_self]
theorem sg2_b {a b : Nat} (h : sg2 a b ≠ 0) : b = 62 ∨ b = 61 ∨ b = 58 := by
  unfold sg2 at h
  by_cases h1 : a = 61 ∧ b = 62
  · exact .inl h1.2
  · by_cases h2 : a = 61 ∧ b = 61
    · exact .inr (.inl h2.2)
    · by_cases h3 : a = 60 ∧ b = 61
      · exact .inr (.inl h3.2)
      · by_cases h4 : a = 58 ∧ b = 58
        · exact .inr (.inr h4.2)
        · rw [if_neg h1, if_neg h2, if_neg h3, if_neg h4] at h; exact absurd rfl h
theorem lex_sign {a m nm : Nat} (h : LX c N a m nm σ τ) (d : Nat) (ha : a < N) (hl : ltr (c a) = false) (hd : dgt (c a) = false) (h123 : c a ≠ 123) (h32 : c a ≠ 32) (h10 : c a ≠ 10) (v4 : Value) :
    (∃ w2 w4, rn L xs (d + 3) 48 0 [.ref 6, .int (i32 a), jv] [] σ = some (.inl (some (.int (i32 (-1)))), σ) ∧ rn L xs (d + 5) 285 119 [.ref 123, .int (i32 a), .int (i32 (c a)), .int 1, v4] [] τ = rn L xs (d + 5) 285 235 [.ref 123, .int (i32 a), w2, .int 1, w4] [] (mAdd (wr (wr τ 123 5 1) 123 6 (i32 a)) m 0 (i32 a) 1 0)) ∨
    (∃ n σ' τ' w2 w4, (1 ≤ n ∧ TKc c a n) ∧ rn L xs (d + 3) 48 0 [.ref 6, .int (i32 a), jv] [] σ = some (.inl (some (.int (i32 (a + n : Nat)))), σ') ∧ rn L xs (d + 5) 285 119 [.ref 123, .int (i32 a), .int (i32 (c a)), .int 1, v4] [] τ = rn L xs (d + 5) 285 235 [.ref 123, .int (i32 a), w2, .int (i32 n), w4] [] τ' ∧ LX c N (a + n) (m + 1) nm σ' τ' ∧ frLC σ σ' ∧ frLM τ τ') := by
  have hh0 := h
  obtain ⟨x1, x2, x3, x4, x5, x6, x7, x8, x9, x10, x11, x12, x13, x14⟩ := h
  have hN := x1.1
  have hca := x1.2.2.2 a ha
  have hcb := hh_le x1 (a + 1)
  have hb1 : 1 ≤ hh c N (a + 1) → a + 1 < N ∧ hh c N (a + 1) = c (a + 1) := fun q => hh_in (by omega)
  have hc : rn L xs (d + 3) 48 0 [.ref 6, .int (i32 a), jv] [] σ = bI (rn L xs (d + 2) 55 0 [.ref 6, .int (i32 a), jv, jv, jv, jv, jv] [] σ) (fun a2 s1 => some (.inl (some (.int a2)), s1)) X0 := by
    rw [e48_0 (d + 2), bI_ok (here_ok x1 (d + 1) a (by omega)), hh_eq ha, bI_ok (isLetter_ok hca.2.1 (d + 1) σ), hl, c1_eq_bN, cond_false, e48_19 (d + 2), bI_ok (isDigit_ok hca.2.1 (d + 1) σ), hd, c1_eq_bN, cond_false, e48_32 (d + 2)]
  have hs := csign_ok (L := L) (xs := xs) x1 x3 (by omega) d a ha
  have hm : rn L xs (d + 5) 285 119 [.ref 123, .int (i32 a), .int (i32 (c a)), .int 1, v4] [] τ = bI (rn L xs (d + 4) 297 0 [.ref 123, .int (i32 a), jv, jv] [] τ) (fun a2 s1 => cond (pv_c1 .ne a2) (rn L xs (d + 5) 285 206 [.ref 123, .int (i32 a), .int (i32 (c a)), .int 1, .int a2] [] s1) (bV (rn L xs (d + 4) 291 0 [.ref 123, .int 1, .int (i32 a)] [] s1) (fun s3 => rn L xs (d + 5) 285 206 [.ref 123, .int (i32 a), .int (i32 (c a)), .int 1, .int a2] [] s3) X0)) X0 := by
    rw [e285_119 (d + 4), m8_ne hca.2.1 123 (by decide), cnd_not, decide_eq_false h123, cond_false, e285_176 (d + 4), m8_eq hca.2.1 32 (by decide), decide_eq_false h32, cond_false, m8_eq hca.2.1 10 (by decide), decide_eq_false h10, cond_false]
  have hk := msign_ok (L := L) (xs := xs) x1 (d + 2) a ha
  rw [bI_ok hk] at hm
  rcases sg_rel (a := c a) (b := hh c N (a + 1)) hca.2.1 hcb with ⟨r1, r2, r3⟩ | ⟨r1, r2, r3, r4⟩
  · left
    rw [if_pos ⟨r2, r3⟩] at hs
    rw [bI_ok hs] at hc
    rw [r1, c1_ne (by omega) (by omega), c_f (by omega), bV_ok (mfail_ok x6 (d + 3) _ _), e285_206 (d + 4), show (20 : Int32) = i32 20 from rfl, c2_lt (by omega) (by omega) (by omega) (by omega), c_t (by omega), e285_224 (d + 4), e285_225 (d + 4), bV_ok (madd_ok (m := m) (by rw [wr_nei (by decide), wr_nei (by decide)]; exact x4) (by omega) (d + 3) _ _ _ _)] at hm
    exact ⟨_, _, hc, hm⟩
  · right
    have hsb : sg2 (c a) (hh c N (a + 1)) ≠ 0 → hh c N (a + 1) = 62 ∨ hh c N (a + 1) = 61 ∨ hh c N (a + 1) = 58 := sg2_b
    generalize sgK (c a) (hh c N (a + 1)) = μ at *
    generalize sg2 (c a) (hh c N (a + 1)) = two at *
    rw [c1_ne (by omega) (by omega), c_t (by omega), e285_206 (d + 4), show (20 : Int32) = i32 20 from rfl, show (23 : Int32) = i32 23 from rfl, c2_lt (by omega) (by omega) (by omega) (by omega), c_f (by omega), c2_gt (by omega) (by omega) (by omega) (by omega)] at hm
    rcases r4 with ⟨q1, q2, q3, q4⟩ | ⟨q1, q2, q3, q4, q5⟩
    · rw [if_neg (fun p => by rw [q2] at p; cases p.2), if_pos q1, if_pos q1] at hs
      rw [bI_ok hs] at hc
      rw [c_t (by omega), e285_224 (d + 4), e285_225 (d + 4), bV_ok (madd_ok x4 (by omega) (d + 3) _ _ _ _)] at hm
      obtain ⟨k1, k2, k3, k4, k5, k6⟩ := cAdd_at (σ := wr σ 11 m (by8 (i32 (c a)))) (m := m) (κ := 3) (s := i32 a) (e := i32 (a + 1 : Nat))
      obtain ⟨j1, j2, j3, j4, j5, j6, j7, j8⟩ := mAdd_at (τ := τ) (m := m) (μ := i32 μ) (s := i32 a) (n := 1) (w := 0)
      refine ⟨1, _, mAdd τ m (i32 μ) (i32 a) 1 0, _, _, ⟨Nat.le_refl _, fun i h1 h2 => by rw [show i = a by omega]; exact ⟨h123, h32, h10⟩⟩, hc, hm, ?_, fr_w11.trans fr_cAdd, fr_mAdd⟩
      refine hh0.push (by omega) (by omega) (fr_w11.trans fr_cAdd) fr_mAdd (Nat.le_refl _) (by omega) (fun j k hk h6 => by rw [cAdd_ne hk h6, wr_nei hk]) (fun j k _ => rfl) k6 (fun j k hk h1 h2 => mAdd_ne hk h2) (fun w _ => j8 w) j5 (j6.trans x5) (j7.trans x6) k2 k3 ?_ (fun w h1 h2 => by omega)
      refine ⟨a, a + 1, μ, by omega, by omega, k2, k3, j2, by rw [j3, show a + 1 - a = 1 by omega]; rfl, j1, fun i h1 h2 => (by rw [show i = a by omega]; omega), fun _ q => absurd q (by omega), fun q => absurd q (by omega), Or.inr (Or.inr (Or.inr ⟨r1, r2, k1, ?_⟩))⟩
      rw [k4, wr_self, q4, by8_id (by rw [i32_ti (by omega) (by omega)]; omega) (by rw [i32_ti (by omega) (by omega)]; omega)]
    · rw [if_neg (fun p => q1 p.1), if_neg q1, if_neg q1] at hs
      rw [bI_ok hs] at hc
      obtain ⟨b1, b2⟩ := hb1 q4
      rw [c_f (by omega), e285_225 (d + 4), bV_ok (madd_ok x4 (by omega) (d + 3) _ _ _ _)] at hm
      obtain ⟨k1, k2, k3, k4, k5, k6⟩ := cAdd_at (σ := wr σ 11 m (i32 two)) (m := m) (κ := 3) (s := i32 a) (e := i32 (a + 2 : Nat))
      obtain ⟨j1, j2, j3, j4, j5, j6, j7, j8⟩ := mAdd_at (τ := τ) (m := m) (μ := i32 μ) (s := i32 a) (n := 2) (w := 0)
      refine ⟨2, _, mAdd τ m (i32 μ) (i32 a) 2 0, _, _, ⟨by omega, fun i h1 h2 => by
        by_cases e : i = a
        · rw [e]; exact ⟨h123, h32, h10⟩
        · rw [show i = a + 1 by omega, ← b2]; have := hsb q1; omega⟩, hc, hm, ?_, fr_w11.trans fr_cAdd, fr_mAdd⟩
      refine hh0.push (by omega) (by omega) (fr_w11.trans fr_cAdd) fr_mAdd (Nat.le_refl _) (by omega) (fun j k hk h6 => by rw [cAdd_ne hk h6, wr_nei hk]) (fun j k _ => rfl) k6 (fun j k hk h1 h2 => mAdd_ne hk h2) (fun w _ => j8 w) j5 (j6.trans x5) (j7.trans x6) k2 k3 ?_ (fun w h1 h2 => by omega)
      refine ⟨a, a + 2, μ, by omega, by omega, k2, k3, j2, by rw [j3, show a + 2 - a = 2 by omega]; rfl, j1, fun i h1 h2 => ?_, fun _ q => absurd q (by omega), fun q => absurd q (by omega), Or.inr (Or.inr (Or.inr ⟨r1, r2, k1, ?_⟩))⟩
      · by_cases e : i = a
        · rw [e]; omega
        · rw [show i = a + 1 by omega, ← b2]; omega
      · rw [k4, wr_self, q3]
end LEX8
