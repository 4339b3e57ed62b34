/-! LEXEMES: names, numbers -/
section LEX2
variable {L : Nat} {xs : Nat → Int32} {c : Nat → Nat} {N : Nat} {σ τ : tvS}
def al (c : Nat → Nat) (N i : Nat) : Bool := aln (hh c N i)
def dg (c : Nat → Nat) (N i : Nat) : Bool := dgt (hh c N i)
theorem al_N : al c N N = false := by unfold al hh; rw [if_neg (Nat.lt_irrefl N)]; rfl
theorem dg_N : dg c N N = false := by unfold dg hh; rw [if_neg (Nat.lt_irrefl N)]; rfl
theorem aln_lt {h : Nat} (e : aln h = true) : 48 ≤ h ∧ h ≤ 122 := by
  unfold aln ltr dgt at e
  simp only [Bool.or_eq_true, Bool.and_eq_true, Nat.ble_eq] at e
  omega
theorem dgt_lt {h : Nat} (e : dgt h = true) : 48 ≤ h ∧ h ≤ 57 := by
  unfold dgt at e
  simp only [Bool.and_eq_true, Nat.ble_eq] at e
  omega
theorem hh_in {i : Nat} (h : hh c N i ≠ 0) : i < N ∧ hh c N i = c i := by
  unfold hh at h ⊢
  by_cases e : i < N
  · rw [if_pos e]; exact ⟨e, rfl⟩
  · rw [if_neg e] at h; exact absurd rfl h
theorem al_c {i : Nat} (h : al c N i = true) : i < N ∧ hh c N i = c i ∧ 48 ≤ c i ∧ c i ≤ 122 := by
  have := aln_lt h
  obtain ⟨a, b⟩ := hh_in (c := c) (N := N) (i := i) (by omega)
  exact ⟨a, b, by omega, by omega⟩
theorem dg_c {i : Nat} (h : dg c N i = true) : i < N ∧ hh c N i = c i ∧ 48 ≤ c i ∧ c i ≤ 57 := by
  have := dgt_lt h
  obtain ⟨a, b⟩ := hh_in (c := c) (N := N) (i := i) (by omega)
  exact ⟨a, b, by omega, by omega⟩
/-- how long a name, a number is -/
def rnm (c : Nat → Nat) (N s : Nat) : Nat := run (al c N) N s
def rdg (c : Nat → Nat) (N s : Nat) : Nat := run (dg c N) N s
theorem i32_n1 (n : Nat) : i32 (n : Int) + 1 = i32 ((n + 1 : Nat) : Int) := by
  rw [show (1 : Int32) = i32 1 from rfl, i32_add]; congr 1
theorem i32_nn (a b : Nat) : i32 (a : Int) + i32 (b : Int) = i32 ((a + b : Nat) : Int) := by
  rw [i32_add]; congr 1
/-- the component's loop over a name -/
theorem cname_test (h : TX c N σ τ) (d s to : Nat) (ht : to < 2147483648) (y : Int64) (v4 v5 : Value) : ∃ w4 w5, rn L xs (d + 2) 51 4 [.ref 6, .int (i32 s), .int (i32 to), .long y, v4, v5] [] σ = cond (al c N to) (rn L xs (d + 2) 51 26 [.ref 6, .int (i32 s), .int (i32 to), .long y, w4, w5] [] σ) (rn L xs (d + 2) 51 52 [.ref 6, .int (i32 s), .int (i32 to), .long y, w4, w5] [] σ) := by
  rw [e51_4 (d + 1), bI_ok (here_ok h d to ht), bI_ok (isLetter_ok (hh_le h _) d σ), c1_ne_bN]
  unfold al aln
  cases e1 : ltr (hh c N to) with
  | true => exact ⟨_, _, rfl⟩
  | false =>
    rw [cond_false, bI_ok (here_ok h d to ht), bI_ok (isDigit_ok (hh_le h _) d σ), c1_eq_bN]
    cases dgt (hh c N to) with
    | true => exact ⟨_, _, rfl⟩
    | false => exact ⟨_, _, rfl⟩
theorem cname_loop (h : TX c N σ τ) (d s : Nat) (hs : s ≤ N) : ∀ (k n : Nat) (v4 v5 : Value), n + k = rnm c N s → ∃ w4 w5, rn L xs (d + 2) 51 4 [.ref 6, .int (i32 s), .int (i32 (s + n : Nat)), .long (Int64.ofNat (pkc c s (min n 8))), v4, v5] [] σ = rn L xs (d + 2) 51 52 [.ref 6, .int (i32 s), .int (i32 (s + rnm c N s : Nat)), .long (Int64.ofNat (pkc c s (min (rnm c N s) 8))), w4, w5] [] σ := by
  have hN := h.1
  have hle : s + rnm c N s ≤ N := run_le hs
  intro k
  induction k with
  | zero =>
    intro n v4 v5 hn
    have hn : n = rnm c N s := hn
    have he : al c N (s + n) = false := by rw [hn]; exact run_end hs al_N
    obtain ⟨w4, w5, e⟩ := cname_test (L := L) (xs := xs) h d s (s + n) (by omega) (Int64.ofNat (pkc c s (min n 8))) v4 v5
    rw [e, he, cond_false, hn]
    exact ⟨_, _, rfl⟩
  | succ k ih =>
    intro n v4 v5 hn
    have hlt : n < rnm c N s := by omega
    have he : al c N (s + n) = true := run_at hlt
    obtain ⟨q1, q2, q3, q4⟩ := al_c he
    obtain ⟨w4, w5, e⟩ := cname_test (L := L) (xs := xs) h d s (s + n) (by omega) (Int64.ofNat (pkc c s (min n 8))) v4 v5
    rw [e, he, cond_true, e51_26 (d + 1), i32_sub, show (8 : Int32) = i32 8 from rfl, c2_ge (by omega) (by omega) (by omega) (by omega)]
    by_cases h8 : 8 ≤ n
    · rw [c_t (by omega), e51_46 (d + 1), i32_n1]
      have := ih (n + 1) w4 w5 (by omega)
      rw [show min (n + 1) 8 = min n 8 by omega, show s + (n + 1) = s + n + 1 by omega] at this
      exact this
    · rw [c_f (by omega), bI_ok (here_ok h d (s + n) (by omega)), e51_46 (d + 1), i32_n1, q2, show min n 8 = n by omega]
      have hP : pkc c s n < 72057594037927936 := pkc_lt7 (by omega) (fun i hi => by have := (al_c (run_at (p := al c N) (N := N) (s := s) (i := i) (show i < rnm c N s by omega))).2.2.2; omega)
      rw [show ((pkc c s n : Nat)) = pkc c s n from rfl]
      have e8 := shl8 (P := pkc c s n) (h := c (s + n)) hP (by omega)
      have := ih (n + 1) jv (dj w5) (by omega)
      rw [show min (n + 1) 8 = n + 1 by omega, show s + (n + 1) = s + n + 1 by omega] at this
      rw [show (i32 8) = (8 : Int32) from rfl, e8]
      exact this
/-- the model's loop over a name -/
theorem mname_test (h : TX c N σ τ) (d s n : Nat) (ht : s + n < 2147483648) (v2 v4 : Value) : ∃ w2 w4, rn L xs (d + 3) 285 43 [.ref 123, .int (i32 s), v2, .int (i32 n), v4] [] τ = cond (al c N (s + n)) (rn L xs (d + 3) 285 69 [.ref 123, .int (i32 s), w2, .int (i32 n), w4] [] τ) (rn L xs (d + 3) 285 75 [.ref 123, .int (i32 s), w2, .int (i32 n), w4] [] τ) := by
  rw [e285_43 (d + 2), i32_nn, bI_ok (sign_ok h (d + 1) (s + n) ht), bI_ok (isSmall_ok (hh_le h _) d τ), c1_ne_bN]
  unfold al aln
  cases e1 : ltr (hh c N (s + n)) with
  | true => exact ⟨_, _, rfl⟩
  | false =>
    rw [cond_false, bI_ok (sign_ok h (d + 1) (s + n) ht), bI_ok (isDig_ok (hh_le h _) d τ), c1_eq_bN]
    cases dgt (hh c N (s + n)) with
    | true => exact ⟨_, _, rfl⟩
    | false => exact ⟨_, _, rfl⟩
theorem mname_loop (h : TX c N σ τ) (d s : Nat) (hs : s ≤ N) : ∀ (k n : Nat) (v2 v4 : Value), n + k = rnm c N s → ∃ w2 w4, rn L xs (d + 3) 285 43 [.ref 123, .int (i32 s), v2, .int (i32 n), v4] [] τ = rn L xs (d + 3) 285 75 [.ref 123, .int (i32 s), w2, .int (i32 (rnm c N s)), w4] [] τ := by
  have hN := h.1
  have hle : s + rnm c N s ≤ N := run_le hs
  intro k
  induction k with
  | zero =>
    intro n v2 v4 hn
    have hn : n = rnm c N s := hn
    have he : al c N (s + n) = false := by rw [hn]; exact run_end hs al_N
    obtain ⟨w2, w4, e⟩ := mname_test (L := L) (xs := xs) h d s n (by omega) v2 v4
    rw [e, he, cond_false, hn]
    exact ⟨_, _, rfl⟩
  | succ k ih =>
    intro n v2 v4 hn
    have hlt : n < rnm c N s := by omega
    have he : al c N (s + n) = true := run_at hlt
    obtain ⟨w2, w4, e⟩ := mname_test (L := L) (xs := xs) h d s n (by omega) v2 v4
    rw [e, he, cond_true, e285_69 (d + 2), i32_n1]
    exact ih (n + 1) _ _ (by omega)
/-! numbers -/
def dv (c : Nat → Nat) (s : Nat) : Nat → Int32
  | 0 => 0
  | n + 1 => 10 * dv c s n + i32 (c (s + n)) - 48
theorem cnum_loop (h : TX c N σ τ) (d s : Nat) (hs : s ≤ N) : ∀ (k n : Nat), n + k = rdg c N s → rn L xs (d + 2) 54 4 [.ref 6, .int (i32 s), .int (i32 (s + n : Nat)), .int (dv c s (min n 9))] [] σ = rn L xs (d + 2) 54 43 [.ref 6, .int (i32 s), .int (i32 (s + rdg c N s : Nat)), .int (dv c s (min (rdg c N s) 9))] [] σ := by
  have hN := h.1
  have hle : s + rdg c N s ≤ N := run_le hs
  intro k
  induction k with
  | zero =>
    intro n hn
    have hn : n = rdg c N s := hn
    have he : dg c N (s + n) = false := by rw [hn]; exact run_end hs dg_N
    unfold dg at he
    rw [e54_4 (d + 1), bI_ok (here_ok h d (s + n) (by omega)), bI_ok (isDigit_ok (hh_le h _) d σ), c1_eq_bN, he, cond_false, hn]
  | succ k ih =>
    intro n hn
    have hlt : n < rdg c N s := by omega
    have he : dg c N (s + n) = true := run_at hlt
    obtain ⟨q1, q2, q3, q4⟩ := dg_c he
    unfold dg at he
    have hb : by8 (i32 (c (s + n))) = i32 (c (s + n)) := by8_id (by rw [i32_ti (by omega) (by omega)]; omega) (by rw [i32_ti (by omega) (by omega)]; omega)
    rw [e54_4 (d + 1), bI_ok (here_ok h d (s + n) (by omega)), bI_ok (isDigit_ok (hh_le h _) d σ), c1_eq_bN, he, cond_true, i32_sub, show (9 : Int32) = i32 9 from rfl, c2_ge (by omega) (by omega) (by omega) (by omega)]
    have := ih (n + 1) (by omega)
    rw [show s + (n + 1) = s + n + 1 by omega] at this
    by_cases h9 : 9 ≤ n
    · rw [c_t (by omega), e54_37 (d + 1), i32_n1, show min n 9 = min (n + 1) 9 by omega]
      exact this
    · rw [c_f (by omega), bI_ok (here_ok h d (s + n) (by omega)), e54_37 (d + 1), i32_n1, q2, hb, show min n 9 = n by omega]
      rw [show min (n + 1) 9 = n + 1 by omega] at this
      exact this
theorem mnum_loop (h : TX c N σ τ) (d s : Nat) (hs : s ≤ N) : ∀ (k n : Nat) (v2 v4 : Value), n + k = rdg c N s → ∃ w2 w4, rn L xs (d + 3) 285 91 [.ref 123, .int (i32 s), v2, .int (i32 n), v4] [] τ = rn L xs (d + 3) 285 110 [.ref 123, .int (i32 s), w2, .int (i32 (rdg c N s)), w4] [] τ := by
  have hN := h.1
  have hle : s + rdg c N s ≤ N := run_le hs
  intro k
  induction k with
  | zero =>
    intro n v2 v4 hn
    have hn : n = rdg c N s := hn
    have he : dg c N (s + n) = false := by rw [hn]; exact run_end hs dg_N
    unfold dg at he
    rw [e285_91 (d + 2), i32_nn, bI_ok (sign_ok h (d + 1) (s + n) (by omega)), bI_ok (isDig_ok (hh_le h _) d τ), c1_eq_bN, he, cond_false, hn]
    exact ⟨_, _, rfl⟩
  | succ k ih =>
    intro n v2 v4 hn
    have hlt : n < rdg c N s := by omega
    have he : dg c N (s + n) = true := run_at hlt
    unfold dg at he
    rw [e285_91 (d + 2), i32_nn, bI_ok (sign_ok h (d + 1) (s + n) (by omega)), bI_ok (isDig_ok (hh_le h _) d τ), c1_eq_bN, he, cond_true, i32_n1]
    exact ih (n + 1) _ _ (by omega)
theorem mnum_val (h : TX c N σ τ) (d s m : Nat) (hm : s + m ≤ N) : ∀ (k n : Nat), n + k = m → rn L xs (d + 1) 296 18 [.ref 123, .int (i32 s), .int (i32 m), .int (dv c s n), .int (i32 (s + n : Nat))] [] τ = rn L xs (d + 1) 296 48 [.ref 123, .int (i32 s), .int (i32 m), .int (dv c s m), .int (i32 (s + m : Nat))] [] τ := by
  have hN := h.1
  intro k
  induction k with
  | zero =>
    intro n hn
    have hn : n = m := hn
    rw [e296_18, i32_nn, c2_ge (by omega) (by omega) (by omega) (by omega), c_t (by omega), hn]
  | succ k ih =>
    intro n hn
    rw [e296_18, i32_nn, c2_ge (by omega) (by omega) (by omega) (by omega), c_f (by omega), c_in (by omega) (by omega) (by omega), i32_ixn (by omega), (h.2.2.2 (s + n) (by omega)).2.2.2, i32_n1]
    have := ih (n + 1) (by omega)
    rw [show s + (n + 1) = s + n + 1 by omega] at this
    exact this
end LEX2
