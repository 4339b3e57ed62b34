/-! LEXEMES: words, numbers of names -/
def sch (j i : Nat) : Nat := (schr j i).toInt.toNat
def pkW (w : Nat) : Nat := pkc (sch w) 0 (slen w)
theorem wd_ok : ∀ w, w < 13 → rl0 8 w = Int64.ofNat (pkW w) ∧ slen w ≤ 8 ∧ 1 ≤ slen w ∧ pkW w < 9223372036854775808 := by decide +kernel
theorem wd_ch : ∀ w, w < 13 → ∀ i, i < slen w → schr w i = i32 (sch w i) ∧ 1 ≤ sch w i ∧ sch w i < 128 := by decide +kernel
def wIx (P : Nat) : Nat → Nat → Nat
  | 0, w => w
  | k + 1, w => if pkW w = P then w else wIx P k (w + 1)
theorem wIx_le (P : Nat) : ∀ k w, wIx P k w ≤ w + k := by
  intro k
  induction k with
  | zero => intro w; exact Nat.le_refl _
  | succ k ih =>
    intro w
    show (if pkW w = P then w else wIx P k (w + 1)) ≤ _
    split
    · omega
    · have := ih (w + 1); omega
section LEX3
variable {L : Nat} {xs : Nat → Int32} {c : Nat → Nat} {N : Nat} {σ τ : tvS}
theorem cword_loop {P : Nat} (hP : P < 9223372036854775808) (hw : ∀ w, w < 13 → rl σ 8 w = rl0 8 w) (d : Nat) (x1 x2 : Int32) : ∀ (k w : Nat) (v4 : Value), w + k = 13 → ∃ w4, rn L xs (d + 1) 51 65 [.ref 6, .int x1, .int x2, .long (Int64.ofNat P), v4, .int (i32 w)] [] σ = rn L xs (d + 1) 51 90 [.ref 6, .int x1, .int x2, .long (Int64.ofNat P), w4, .int (i32 (wIx P k w))] [] σ := by
  intro k
  induction k with
  | zero =>
    intro w v4 h
    rw [e51_65, show (13 : Int32) = i32 13 from rfl, c2_ge (by omega) (by omega) (by omega) (by omega), c_t (by omega)]
    exact ⟨_, rfl⟩
  | succ k ih =>
    intro w v4 h
    obtain ⟨q1, q2, q3, q4⟩ := wd_ok w (by omega)
    rw [e51_65, show (13 : Int32) = i32 13 from rfl, c2_ge (by omega) (by omega) (by omega) (by omega), c_f (by omega), c_in (by omega) (by omega) (by omega), i32_ixn (by omega), hw w (by omega), q1, lcmp_eq]
    show ∃ w4, _ = rn L xs (d + 1) 51 90 [.ref 6, .int x1, .int x2, .long (Int64.ofNat P), w4, .int (i32 ((if pkW w = P then w else wIx P k (w + 1) : Nat) : Int))] [] σ
    by_cases e : pkW w = P
    · rw [if_pos ((of64_inj q4 hP).mpr e), if_pos e]
      exact ⟨_, rfl⟩
    · rw [if_neg (fun q => e ((of64_inj q4 hP).mp q)), if_neg e, i32_n1]
      exact ih (w + 1) _ (by omega)
/-- the model: does a word stand at a place -/
def eqW (c : Nat → Nat) (j s k : Nat) : Bool := (List.range k).all fun i => Nat.beq (c (s + i)) (sch j i)
theorem eqW_succ (c : Nat → Nat) (j s k : Nat) : eqW c j s (k + 1) = (eqW c j s k && Nat.beq (c (s + k)) (sch j k)) := by
  unfold eqW
  rw [List.range_succ, List.all_append]
  simp
theorem eqW_iff {c : Nat → Nat} {j s k : Nat} : eqW c j s k = true ↔ ∀ i, i < k → c (s + i) = sch j i := by
  unfold eqW
  rw [List.all_eq_true]
  exact ⟨fun h i hi => Nat.eq_of_beq_eq_true (h i (List.mem_range.mpr hi)), fun h i hi => by rw [h i (List.mem_range.mp hi)]; exact Nat.beq_refl _⟩
theorem fl_nat (j : Nat) (hj : j < 100) : (UInt32.ofNat j).toNat = j := by
  show j % 2 ^ 32 = j
  omega
theorem isWord_loop (h : TX c N σ τ) {j : Nat} (hj : j < 13) (d s n : Nat) (hs : s + n ≤ N) (hn : n = slen j) : ∀ (k i : Nat), i + k = n → ∃ m, m ≤ n ∧ rn L xs (d + 1) 293 18 [.ref 123, .float (UInt32.ofNat j), .int (i32 s), .int (i32 n), .int (bN (eqW c j s i)), .int (i32 i)] [] τ = rn L xs (d + 1) 293 60 [.ref 123, .float (UInt32.ofNat j), .int (i32 s), .int (i32 n), .int (bN (eqW c j s n)), .int (i32 m)] [] τ := by
  have hN := h.1
  intro k
  induction k with
  | zero =>
    intro i hi
    have hi : i = n := hi
    rw [e293_18, c2_ge (by omega) (by omega) (by omega) (by omega), c_t (by omega), hi]
    exact ⟨n, Nat.le_refl _, rfl⟩
  | succ k ih =>
    intro i hi
    rw [e293_18, c2_ge (by omega) (by omega) (by omega) (by omega), c_f (by omega), c1_eq_bN]
    cases e : eqW c j s i with
    | false =>
      have e2 : eqW c j s n = false := by
        cases e3 : eqW c j s n with
        | false => rfl
        | true => rw [eqW_iff.mpr (fun q hq => eqW_iff.mp e3 q (by omega))] at e; cases e
      rw [cond_false, e2]
      exact ⟨i, by omega, rfl⟩
    | true =>
      have hc := wd_ch j hj i (by omega)
      have hx := h.2.2.2 (s + i) (by omega)
      rw [cond_true, i32_nn, c_in (by omega) (by omega) (by omega), i32_ixn (by omega), i32_ixn (by omega), fl_nat j (by omega), show (Nat.blt j 23 && true) = true from by rw [show Nat.blt j 23 = true from Nat.blt_eq.mpr (by omega)]; rfl, cond_true, c_in (by omega) (by omega) (by omega), hx.2.2.2, hc.1, c2_ne (by omega) (by omega) (by omega) (by omega)]
      have ihx := ih (i + 1) (by omega)
      rw [eqW_succ, e, Bool.true_and] at ihx
      by_cases q : c (s + i) = sch j i
      · rw [c_f (by omega), e293_52, i32_n1]
        rw [show Nat.beq (c (s + i)) (sch j i) = true from by rw [q]; exact Nat.beq_refl _] at ihx
        exact ihx
      · rw [c_t (by omega), e293_51, e293_52, i32_n1]
        rw [show Nat.beq (c (s + i)) (sch j i) = false from by cases q2 : Nat.beq (c (s + i)) (sch j i) with | false => rfl | true => exact absurd (Nat.eq_of_beq_eq_true q2) q] at ihx
        exact ihx
theorem isWord_ok (h : TX c N σ τ) {j : Nat} (hj : j < 13) (d s n : Nat) (hs : s + n ≤ N) : rn L xs (d + 1) 293 0 [.ref 123, .float (UInt32.ofNat j), .int (i32 s), .int (i32 n), jv, jv] [] τ = some (.inl (some (.int (bN (decide (pkW j = pkc c s n))))), τ) := by
  have hN := h.1
  obtain ⟨q1, q2, q3, q4⟩ := wd_ok j hj
  have hinj := pkc_inj (c := sch j) (c' := c) (s := 0) (s' := s) (slen j) n (fun i hi => by have := wd_ch j hj i hi; rw [Nat.zero_add]; omega) (fun i hi => by have := h.2.2.2 (s + i) (by omega); omega)
  have hinj : pkW j = pkc c s n ↔ slen j = n ∧ ∀ i, i < slen j → sch j (0 + i) = c (s + i) := hinj
  rw [e293_0, fl_nat j (by omega), show (Nat.blt j 23 && true) = true from by rw [show Nat.blt j 23 = true from Nat.blt_eq.mpr (by omega)]; rfl, cond_true, i32_nat, c2_ne (by omega) (by omega) (by omega) (by omega)]
  by_cases e : slen j = n
  · rw [c_f (by omega), e293_13]
    obtain ⟨m, hm, e2⟩ := isWord_loop (L := L) (xs := xs) h hj d s n hs e.symm n 0 (by omega)
    rw [show (1 : Int32) = bN (eqW c j s 0) from rfl, show (0 : Int32) = i32 ((0 : Nat) : Int) from rfl, e2, e293_60, b01_bN]
    have : eqW c j s n = decide (pkW j = pkc c s n) := by
      by_cases q : pkW j = pkc c s n
      · rw [decide_eq_true q]
        obtain ⟨_, a2⟩ := hinj.mp q
        exact eqW_iff.mpr (fun i hi => by have := a2 i (by omega); rw [Nat.zero_add] at this; exact this.symm)
      · rw [decide_eq_false q]
        cases e3 : eqW c j s n with
        | false => rfl
        | true => exact absurd (hinj.mpr ⟨e, fun i hi => by rw [Nat.zero_add]; exact (eqW_iff.mp e3 i (by omega)).symm⟩) q
    rw [this]
    rfl
  · rw [c_t (by omega), e293_12, e293_13, decide_eq_false (fun q => e (hinj.mp q).1)]
    rw [e293_18]
    by_cases hn : n = 0
    · subst hn
      rw [show (0 : Int32) = i32 ((0 : Nat) : Int) from rfl, c2_ge (by omega) (by omega) (by omega) (by omega), c_t (by omega), e293_60]
      rfl
    · rw [c2_gex, i32_ti (by omega) (by omega), show (0 : Int32).toInt = 0 from rfl, c_f (by omega)]
      show cond (pv_c1 .eq (bN false)) _ _ = _
      rw [c1_eq_bN, cond_false, e293_60]
      rfl
theorem wordOf_ok : ∀ w, w < 13 → ((insP 292 1).bind fun q => tv_sw q.1 1 (i32 ((3 + w : Nat) : Int))) = some (64 + 4 * w) := by decide +kernel
theorem wordOf_run (d : Nat) (σ : tvS) (w : Nat) (hw : w < 13) : rn L xs (d + 1) 292 0 [.int (i32 ((3 + w : Nat) : Int))] [] σ = some (.inl (some (.float (UInt32.ofNat w))), σ) := by
  rw [e292_0, swk_of (wordOf_ok w hw)]
  match w, hw with
  | 0, _ => exact e292_64 d σ _
  | 1, _ => exact e292_68 d σ _
  | 2, _ => exact e292_72 d σ _
  | 3, _ => exact e292_76 d σ _
  | 4, _ => exact e292_80 d σ _
  | 5, _ => exact e292_84 d σ _
  | 6, _ => exact e292_88 d σ _
  | 7, _ => exact e292_92 d σ _
  | 8, _ => exact e292_96 d σ _
  | 9, _ => exact e292_100 d σ _
  | 10, _ => exact e292_104 d σ _
  | 11, _ => exact e292_108 d σ _
  | 12, _ => exact e292_112 d σ _
  | w + 13, h => omega
/-- the model's search for a word -/
theorem mword_loop (h : TX c N σ τ) (d s n : Nat) (hs : s + n ≤ N) : ∀ (k w : Nat), w + k = 13 → rn L xs (d + 2) 290 15 [.ref 123, .int (i32 s), .int (i32 n), .int (i32 (3 + w : Nat))] [] τ =
    if wIx (pkc c s n) k w < 13 then bV (rn L xs (d + 1) 294 0 [.ref 123, .int (i32 (3 + wIx (pkc c s n) k w : Nat)), .int (i32 s), .int (i32 n), .int 0] [] τ) (fun s5 => some (.inl none, s5)) X0 else rn L xs (d + 2) 290 49 [.ref 123, .int (i32 s), .int (i32 n), .int (i32 (3 + 13 : Nat))] [] τ := by
  intro k
  induction k with
  | zero =>
    intro w hw
    have hw : w = 13 := hw
    subst hw
    rw [e290_15, show (15 : Int32) = i32 15 from rfl, c2_gt (by omega) (by omega) (by omega) (by omega), c_t (by omega)]
    show _ = if (13 : Nat) < 13 then _ else _
    rw [if_neg (by omega)]
  | succ k ih =>
    intro w hw
    rw [e290_15, show (15 : Int32) = i32 15 from rfl, c2_gt (by omega) (by omega) (by omega) (by omega), c_f (by omega), bF_ok (wordOf_run d τ w (by omega)), bI_ok (isWord_ok h (by omega) d s n hs), c1_eq_bN]
    by_cases e : pkW w = pkc c s n
    · rw [decide_eq_true e, cond_true]
      have : wIx (pkc c s n) (k + 1) w = w := if_pos e
      rw [this, if_pos (by omega)]
    · rw [decide_eq_false e, cond_false, e290_43, i32_n1]
      have : wIx (pkc c s n) (k + 1) w = wIx (pkc c s n) k (w + 1) := if_neg e
      rw [this]
      exact ih (w + 1) (by omega)
end LEX3
