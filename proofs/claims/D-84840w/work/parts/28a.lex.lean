/-! LEXEMES: single signs -/
def bN (p : Bool) : Int32 := cond p 1 0
theorem b01_bN (p : Bool) : b01 (bN p) = true := by cases p <;> rfl
theorem c1_eq_bN {α : Type} {p : Bool} {a b : α} : cond (pv_c1 .eq (bN p)) a b = cond p b a := by cases p <;> rfl
theorem c1_ne_bN {α : Type} {p : Bool} {a b : α} : cond (pv_c1 .ne (bN p)) a b = cond p a b := by cases p <;> rfl
theorem lit_ti (q : Nat) (hq : q < 2147483648) : (OfNat.ofNat q : Int32).toInt = q := by
  rw [i32_lit]; exact i32_ti (by omega) (by omega)
theorem b8_ti {h : Nat} (hh : h ≤ 255) : (by8 (i32 h)).toInt = if h < 128 then (h : Int) else (h : Int) - 256 := by
  rw [by8_ti, i32_ti (by omega) (by omega), Int.bmod_def]
  split <;> split <;> omega
theorem b8_eq {h : Nat} (hh : h ≤ 255) (q : Nat) (hq : q < 128) : pv_c2 .eq (by8 (i32 h)) (OfNat.ofNat q) = decide (h = q) := by
  rw [c2_eqx, b8_ti hh, lit_ti q (by omega)]
  refine decide_eq_decide.mpr ?_
  split <;> omega
theorem b8_ne {h : Nat} (hh : h ≤ 255) (q : Nat) (hq : q < 128) : pv_c2 .ne (by8 (i32 h)) (OfNat.ofNat q) = !(decide (h = q)) := by
  rw [c2_nex, b8_ti hh, lit_ti q (by omega), ← decide_not]
  refine decide_eq_decide.mpr ?_
  split <;> omega
theorem m8_eq {h : Nat} (hh : h ≤ 255) (q : Nat) (hq : q < 128) : pv_c2 .eq (i32 h) (OfNat.ofNat q) = decide (h = q) := by
  rw [c2_eqx, i32_ti (by omega) (by omega), lit_ti q (by omega)]
  exact decide_eq_decide.mpr (by omega)
theorem m8_ne {h : Nat} (hh : h ≤ 255) (q : Nat) (hq : q < 128) : pv_c2 .ne (i32 h) (OfNat.ofNat q) = !(decide (h = q)) := by
  rw [c2_nex, i32_ti (by omega) (by omega), lit_ti q (by omega), ← decide_not]
  exact decide_eq_decide.mpr (by omega)
theorem cnd_not {α : Type} {p : Bool} {a b : α} : cond (!p) a b = cond p b a := by cases p <;> rfl
/-- small letters, digits -/
def ltr (h : Nat) : Bool := Nat.ble 97 h && Nat.ble h 122
def dgt (h : Nat) : Bool := Nat.ble 48 h && Nat.ble h 57
def aln (h : Nat) : Bool := ltr h || dgt h
section LEX1
variable {L : Nat} {xs : Nat → Int32}
/-- the text: N signs c -/
def TX (c : Nat → Nat) (N : Nat) (σ τ : tvS) : Prop := N ≤ 3000 ∧ rd σ 6 3 = i32 N ∧ rd τ 123 13 = i32 N ∧ ∀ i, i < N → 1 ≤ c i ∧ c i ≤ 255 ∧ rd σ 9 i = by8 (i32 (c i)) ∧ rd τ 130 i = i32 (c i)
def hh (c : Nat → Nat) (N i : Nat) : Nat := if i < N then c i else 0
variable {c : Nat → Nat} {N : Nat} {σ τ : tvS}
theorem hh_le (h : TX c N σ τ) (i : Nat) : hh c N i ≤ 255 := by
  unfold hh
  split
  · exact (h.2.2.2 i (by assumption)).2.1
  · omega
theorem here_ok (h : TX c N σ τ) (d i : Nat) (hi : i < 2147483648) : rn L xs (d + 1) 49 0 [.ref 6, .int (i32 i)] [] σ = some (.inl (some (.int (by8 (i32 (hh c N i))))), σ) := by
  have hN := h.1
  rw [e49_0, h.2.1, c2_ge (by omega) (by omega) (by omega) (by omega)]
  by_cases e : i < N
  · rw [c_f (by omega), c_in (by omega) (by omega) (by omega), e49_18, i32_ixn (by omega), (h.2.2.2 i e).2.2.1]
    unfold hh
    rw [if_pos e]
  · rw [c_t (by omega), e49_17, e49_18]
    unfold hh
    rw [if_neg e]
    rfl
theorem sign_ok (h : TX c N σ τ) (d i : Nat) (hi : i < 2147483648) : rn L xs (d + 1) 288 0 [.ref 123, .int (i32 i)] [] τ = some (.inl (some (.int (i32 (hh c N i)))), τ) := by
  have hN := h.1
  rw [e288_0, h.2.2.1, c2_ge (by omega) (by omega) (by omega) (by omega)]
  by_cases e : i < N
  · rw [c_f (by omega), c_in (by omega) (by omega) (by omega), e288_18, i32_ixn (by omega), (h.2.2.2 i e).2.2.2]
    unfold hh
    rw [if_pos e]
  · rw [c_t (by omega), e288_17, e288_18]
    unfold hh
    rw [if_neg e]
    rfl
theorem isLetter_ok {h : Nat} (hh : h ≤ 255) (d : Nat) (σ : tvS) : rn L xs (d + 1) 50 0 [.int (by8 (i32 h))] [] σ = some (.inl (some (.int (bN (ltr h)))), σ) := by
  rw [e50_0, c2_ltx, c2_gtx, b8_ti hh, lit_ti 97 (by decide), lit_ti 122 (by decide)]
  unfold ltr
  by_cases e1 : h < 97
  · rw [c_t (by split <;> omega), e50_16, e50_17, show Nat.ble 97 h = false from by cases q : Nat.ble 97 h with | false => rfl | true => exact absurd (Nat.le_of_ble_eq_true q) (by omega)]
    rfl
  · rw [show Nat.ble 97 h = true from Nat.ble_eq_true_of_le (by omega)]
    by_cases e2 : h ≤ 122
    · rw [c_f (by split <;> omega), c_f (by split <;> omega), e50_17, show Nat.ble h 122 = true from Nat.ble_eq_true_of_le e2]
      rfl
    · rw [show Nat.ble h 122 = false from by cases q : Nat.ble h 122 with | false => rfl | true => exact absurd (Nat.le_of_ble_eq_true q) (by omega)]
      by_cases e3 : h < 128
      · rw [if_pos e3, c_f (by omega), c_t (by omega), e50_16, e50_17]; rfl
      · rw [if_neg e3, c_t (by omega), e50_16, e50_17]; rfl
theorem isDigit_ok {h : Nat} (hh : h ≤ 255) (d : Nat) (σ : tvS) : rn L xs (d + 1) 52 0 [.int (by8 (i32 h))] [] σ = some (.inl (some (.int (bN (dgt h)))), σ) := by
  rw [e52_0, c2_ltx, c2_gtx, b8_ti hh, lit_ti 48 (by decide), lit_ti 57 (by decide)]
  unfold dgt
  by_cases e1 : h < 48
  · rw [c_t (by split <;> omega), e52_16, e52_17, show Nat.ble 48 h = false from by cases q : Nat.ble 48 h with | false => rfl | true => exact absurd (Nat.le_of_ble_eq_true q) (by omega)]
    rfl
  · rw [show Nat.ble 48 h = true from Nat.ble_eq_true_of_le (by omega)]
    by_cases e2 : h ≤ 57
    · rw [c_f (by split <;> omega), c_f (by split <;> omega), e52_17, show Nat.ble h 57 = true from Nat.ble_eq_true_of_le e2]
      rfl
    · rw [show Nat.ble h 57 = false from by cases q : Nat.ble h 57 with | false => rfl | true => exact absurd (Nat.le_of_ble_eq_true q) (by omega)]
      by_cases e3 : h < 128
      · rw [if_pos e3, c_f (by omega), c_t (by omega), e52_16, e52_17]; rfl
      · rw [if_neg e3, c_t (by omega), e52_16, e52_17]; rfl
theorem within_ok (d : Nat) (σ : tvS) (x a b : Int32) : rn L xs (d + 1) 287 0 [.int x, .int a, .int b] [] σ = some (.inl (some (.int (bN (decide (a.toInt ≤ x.toInt) && decide (x.toInt ≤ b.toInt))))), σ) := by
  rw [e287_0, c2_ltx, c2_gtx]
  by_cases e1 : x.toInt < a.toInt
  · rw [c_t e1, e287_14, e287_15, decide_eq_false (p := a.toInt ≤ x.toInt) (by omega)]
    rfl
  · rw [c_f e1, decide_eq_true (p := a.toInt ≤ x.toInt) (by omega)]
    by_cases e2 : b.toInt < x.toInt
    · rw [c_t e2, e287_14, e287_15, decide_eq_false (p := x.toInt ≤ b.toInt) (by omega)]
      rfl
    · rw [c_f e2, e287_15, decide_eq_true (p := x.toInt ≤ b.toInt) (by omega)]
      rfl
theorem ble_dec (a b : Nat) : Nat.ble a b = decide (a ≤ b) := by
  by_cases e : a ≤ b
  · rw [decide_eq_true e]; exact Nat.ble_eq_true_of_le e
  · rw [decide_eq_false e]
    cases q : Nat.ble a b with
    | false => rfl
    | true => exact absurd (Nat.le_of_ble_eq_true q) e
theorem isSmall_ok {h : Nat} (hh : h ≤ 255) (d : Nat) (σ : tvS) : rn L xs (d + 2) 286 0 [.int (i32 h)] [] σ = some (.inl (some (.int (bN (ltr h)))), σ) := by
  rw [e286_0 (d + 1), bI_ok (within_ok d σ _ _ _), b01_bN, i32_ti (by omega) (by omega), lit_ti 97 (by decide), lit_ti 122 (by decide)]
  unfold ltr
  rw [ble_dec, ble_dec, show (decide (((97 : Nat) : Int) ≤ (h : Int))) = decide (97 ≤ h) from decide_eq_decide.mpr (by omega), show (decide ((h : Int) ≤ ((122 : Nat) : Int))) = decide (h ≤ 122) from decide_eq_decide.mpr (by omega)]
  rfl
theorem isDig_ok {h : Nat} (hh : h ≤ 255) (d : Nat) (σ : tvS) : rn L xs (d + 2) 289 0 [.int (i32 h)] [] σ = some (.inl (some (.int (bN (dgt h)))), σ) := by
  rw [e289_0 (d + 1), bI_ok (within_ok d σ _ _ _), b01_bN, i32_ti (by omega) (by omega), lit_ti 48 (by decide), lit_ti 57 (by decide)]
  unfold dgt
  rw [ble_dec, ble_dec, show (decide (((48 : Nat) : Int) ≤ (h : Int))) = decide (48 ≤ h) from decide_eq_decide.mpr (by omega), show (decide ((h : Int) ≤ ((57 : Nat) : Int))) = decide (h ≤ 57) from decide_eq_decide.mpr (by omega)]
  rfl
end LEX1
/-! runs of signs -/
def runL (p : Nat → Bool) : Nat → Nat → Nat
  | 0, _ => 0
  | f + 1, s => cond (p s) (1 + runL p f (s + 1)) 0
/-- how long the run of a kind of signs is that begins at s, up to N -/
def run (p : Nat → Bool) (N s : Nat) : Nat := runL p (N - s) s
theorem runL_le (p : Nat → Bool) : ∀ f s, runL p f s ≤ f := by
  intro f
  induction f with
  | zero => intro s; exact Nat.le_refl _
  | succ f ih =>
    intro s
    show cond (p s) (1 + runL p f (s + 1)) 0 ≤ _
    cases p s with
    | false => exact Nat.zero_le _
    | true => have := ih (s + 1); show 1 + runL p f (s + 1) ≤ f + 1; omega
theorem runL_at (p : Nat → Bool) : ∀ f s i, i < runL p f s → p (s + i) = true := by
  intro f
  induction f with
  | zero => intro s i h; exact absurd h (Nat.not_lt_zero _)
  | succ f ih =>
    intro s i h
    have h : i < cond (p s) (1 + runL p f (s + 1)) 0 := h
    cases e : p s with
    | false => rw [e] at h; exact absurd h (Nat.not_lt_zero _)
    | true =>
      rw [e] at h
      have h : i < 1 + runL p f (s + 1) := h
      cases i with
      | zero => exact e
      | succ i => have := ih (s + 1) i (by omega); rwa [show s + 1 + i = s + (i + 1) by omega] at this
theorem runL_end (p : Nat → Bool) : ∀ f s, runL p f s < f → p (s + runL p f s) = false := by
  intro f
  induction f with
  | zero => intro s h; exact absurd h (Nat.not_lt_zero _)
  | succ f ih =>
    intro s h
    have hd : runL p (f + 1) s = cond (p s) (1 + runL p f (s + 1)) 0 := rfl
    rw [hd] at h ⊢
    cases e : p s with
    | false => exact e
    | true =>
      rw [e] at h
      have h : 1 + runL p f (s + 1) < f + 1 := h
      have := ih (s + 1) (by omega)
      show p (s + (1 + runL p f (s + 1))) = false
      rwa [show s + 1 + runL p f (s + 1) = s + (1 + runL p f (s + 1)) by omega] at this
theorem run_le {p : Nat → Bool} {N s : Nat} (h : s ≤ N) : s + run p N s ≤ N := by have := runL_le p (N - s) s; unfold run; omega
theorem run_at {p : Nat → Bool} {N s i : Nat} (h : i < run p N s) : p (s + i) = true := runL_at p _ _ _ h
theorem run_end {p : Nat → Bool} {N s : Nat} (hs : s ≤ N) (hp : p N = false) : p (s + run p N s) = false := by
  have h1 := runL_le p (N - s) s
  by_cases e : runL p (N - s) s < N - s
  · exact runL_end p _ _ e
  · unfold run
    rw [show s + runL p (N - s) s = N by omega]
    exact hp
theorem run_eq {p : Nat → Bool} {N s n : Nat} (h1 : ∀ i, i < n → p (s + i) = true) (h2 : p (s + n) = false) (hs : s ≤ N) (hp : p N = false) : run p N s = n := by
  have a := run_end hs hp
  rcases Nat.lt_trichotomy (run p N s) n with h | h | h
  · rw [h1 _ h] at a; cases a
  · exact h
  · rw [run_at h] at h2; cases h2
