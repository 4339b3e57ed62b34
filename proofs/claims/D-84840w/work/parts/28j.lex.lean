/-! LEXEMES: comments, and the whole text -/
section LEX9
variable {L : Nat} {xs : Nat → Int32} {c : Nat → Nat} {N : Nat} {σ τ σ' τ' : tvS}
def ncl (c : Nat → Nat) (i : Nat) : Bool := !(decide (c i = 125))
/-- how many signs a comment has behind its first -/
def rcm (c : Nat → Nat) (N a : Nat) : Nat := run (ncl c) N (a + 1)
theorem rcm_end {a : Nat} (ha : a < N) : a + 1 + rcm c N a = N ∨ (a + 1 + rcm c N a < N ∧ c (a + 1 + rcm c N a) = 125) := by
  have h1 : a + 1 + rcm c N a ≤ N := run_le (by omega)
  by_cases e : a + 1 + rcm c N a = N
  · exact Or.inl e
  · refine Or.inr ⟨by omega, ?_⟩
    have := runL_end (ncl c) (N - (a + 1)) (a + 1) (by unfold rcm run at *; omega)
    unfold ncl at this
    have : (!(decide (c (a + 1 + rcm c N a) = 125))) = false := this
    rw [Bool.not_eq_false'] at this
    exact of_decide_eq_true this
theorem ccom_loop (h : TX c N σ τ) (d a : Nat) (ha : a < N) (v1 : Value) : ∀ (k n : Nat), n + k = rcm c N a → rn L xs (d + 1) 47 66 [.ref 6, v1, .int (i32 a), .int (i32 (a + 1 + n : Nat))] [] σ = rn L xs (d + 1) 47 91 [.ref 6, v1, .int (i32 a), .int (i32 (a + 1 + rcm c N a : Nat))] [] σ := by
  have hN := h.1
  have hle : a + 1 + rcm c N a ≤ N := run_le (by omega)
  intro k
  induction k with
  | zero =>
    intro n hn
    have hn : n = rcm c N a := hn
    subst hn
    rw [e47_66, h.2.1, c2_ge (by omega) (by omega) (by omega) (by omega)]
    rcases rcm_end (c := c) ha with e | ⟨e1, e2⟩
    · rw [c_t (by omega)]
    · have hx := h.2.2.2 _ e1
      rw [c_f (by omega), c_in (by omega) (by omega) (by omega), i32_ixn (by omega), hx.2.2.1, b8_eq hx.2.1 125 (by decide), c_t e2]
  | succ k ih =>
    intro n hn
    have hlt : n < rcm c N a := by omega
    have he : ncl c (a + 1 + n) = true := run_at hlt
    unfold ncl at he
    rw [Bool.not_eq_true'] at he
    have hx := h.2.2.2 (a + 1 + n) (by omega)
    rw [e47_66, h.2.1, c2_ge (by omega) (by omega) (by omega) (by omega), c_f (by omega), c_in (by omega) (by omega) (by omega), i32_ixn (by omega), hx.2.2.1, b8_eq hx.2.1 125 (by decide), he, cond_false, i32_n1]
    exact ih (n + 1) (by omega)
theorem mcom_loop (h : TX c N σ τ) (d a : Nat) (ha : a < N) : ∀ (k n : Nat) (v2 v4 : Value), n + k = rcm c N a → ∃ w2 w4, rn L xs (d + 1) 285 125 [.ref 123, .int (i32 a), v2, .int (i32 (1 + n : Nat)), v4] [] τ = rn L xs (d + 1) 285 154 [.ref 123, .int (i32 a), w2, .int (i32 (1 + rcm c N a : Nat)), w4] [] τ := by
  have hN := h.1
  have hle : a + 1 + rcm c N a ≤ N := run_le (by omega)
  intro k
  induction k with
  | zero =>
    intro n v2 v4 hn
    have hn : n = rcm c N a := hn
    subst hn
    rw [e285_125, i32_nn, h.2.2.1, c2_ge (by omega) (by omega) (by omega) (by omega)]
    rcases rcm_end (c := c) ha with e | ⟨e1, e2⟩
    · rw [c_t (by omega)]
      exact ⟨_, _, rfl⟩
    · have hx := h.2.2.2 _ e1
      rw [c_f (by omega), c_in (by omega) (by omega) (by omega), i32_ixn (by omega), show a + (1 + rcm c N a) = a + 1 + rcm c N a by omega, hx.2.2.2, m8_eq hx.2.1 125 (by decide), c_t e2]
      exact ⟨_, _, rfl⟩
  | succ k ih =>
    intro n v2 v4 hn
    have hlt : n < rcm c N a := by omega
    have he : ncl c (a + 1 + n) = true := run_at hlt
    unfold ncl at he
    rw [Bool.not_eq_true'] at he
    have hx := h.2.2.2 (a + 1 + n) (by omega)
    rw [e285_125, i32_nn, h.2.2.1, c2_ge (by omega) (by omega) (by omega) (by omega), c_f (by omega), c_in (by omega) (by omega) (by omega), i32_ixn (by omega), show a + (1 + n) = a + 1 + n by omega, hx.2.2.2, m8_eq hx.2.1 125 (by decide), he, cond_false, i32_n1]
    exact ih (n + 1) _ _ (by omega)
theorem LX.later {a a' m nm : Nat} (h : LX c N a m nm σ τ) (ha : a ≤ a') (ha' : a' ≤ N) : LX c N a' m nm σ τ := by
  obtain ⟨x1, x2, x3, x4, x5, x6, x7, x8, x9, x10, x11, x12, x13, x14⟩ := h
  exact ⟨x1, x2, x3, x4, x5, x6, by omega, ha', x9, x10, x11, x12, x13, fun k hk => Int.le_trans (x14 k hk) (by omega)⟩
/-- what a text that can't be cut leaves -/
def LXF (p : Nat) (τ' : tvS) : Prop := rd τ' 123 5 = 1 ∧ rd τ' 123 6 = i32 p ∧ ∃ m : Nat, m ≤ 3001 ∧ rd τ' 123 8 = i32 m
def lexO (L : Nat) (xs : Nat → Int32) (c : Nat → Nat) (N d a : Nat) (σ τ : tvS) (v1 v3 u2 u3 u4 : Value) : Prop :=
  (∃ m nm σ' τ' w1 w2 w3 y1 y2 y3 y4, (LX c N N m nm σ' τ' ∧ NUX c N m) ∧ frLC σ σ' ∧ frLM τ τ' ∧ rn L xs (d + 4) 47 43 [.ref 6, v1, .int (i32 a), v3] [] σ = rn L xs (d + 4) 47 150 [.ref 6, w1, w2, w3] [] σ' ∧ rn L xs (d + 5) 285 12 [.ref 123, .int (i32 a), u2, u3, u4] [] τ = rn L xs (d + 5) 285 242 [.ref 123, y1, y2, y3, y4] [] τ') ∨
  (∃ p σ' τ' y1 y2 y3 y4, p < N ∧ LXF p τ' ∧ frLC σ σ' ∧ frLM τ τ' ∧ rn L xs (d + 4) 47 43 [.ref 6, v1, .int (i32 a), v3] [] σ = some (.inl (some (.int (i32 p))), σ') ∧ rn L xs (d + 5) 285 12 [.ref 123, .int (i32 a), u2, u3, u4] [] τ = rn L xs (d + 5) 285 242 [.ref 123, y1, y2, y3, y4] [] τ')
theorem mout_ok (d : Nat) (v1 v2 v3 v4 : Value) (x : Int32) (h : rd τ 123 5 = 1) : ∃ y1 y2 y3 y4, rn L xs (d + 1) 285 12 [.ref 123, .int x, v2, v3, v4] [] τ = rn L xs (d + 1) 285 242 [.ref 123, y1, y2, y3, y4] [] τ := by
  rw [e285_12, h]
  cases pv_c2 .ge x (rd τ 123 13) with
  | true => exact ⟨_, _, _, _, rfl⟩
  | false => exact ⟨_, _, _, _, rfl⟩
set_option maxHeartbeats 4000000 in
theorem lex_loop (d : Nat) : ∀ (f a m nm : Nat) (σ τ : tvS) (v1 v3 u2 u3 u4 : Value), N - a ≤ f → LX c N a m nm σ τ → NUX c a m → lexO L xs c N d a σ τ v1 v3 u2 u3 u4 := by
  intro f
  induction f with
  | zero =>
    intro a m nm σ τ v1 v3 u2 u3 u4 hf h hNU
    have ha : a = N := by have := h.2.2.2.2.2.2.2.1; omega
    subst ha
    have hN := h.1.1
    refine Or.inl ⟨m, nm, σ, τ, v1, .int (i32 a), v3, .int (i32 a), u2, u3, u4, ⟨h, hNU⟩, frLC.refl, frLM.refl, ?_, ?_⟩
    · rw [e47_43 (d + 3), h.1.2.1, c2_ge (by omega) (by omega) (by omega) (by omega), c_t (by omega)]
    · rw [e285_12 (d + 4), h.1.2.2.1, c2_ge (by omega) (by omega) (by omega) (by omega), c_t (by omega)]
  | succ f ih =>
    intro a m nm σ τ v1 v3 u2 u3 u4 hf h hNU
    have hh0 := h
    obtain ⟨x1, x2, x3, x4, x5, x6, x7, x8, x9, x10, x11, x12, x13, x14⟩ := h
    have hN := x1.1
    by_cases ha : a = N
    · subst ha
      refine Or.inl ⟨m, nm, σ, τ, v1, .int (i32 a), v3, .int (i32 a), u2, u3, u4, ⟨hh0, hNU⟩, frLC.refl, frLM.refl, ?_, ?_⟩
      · rw [e47_43 (d + 3), x1.2.1, c2_ge (by omega) (by omega) (by omega) (by omega), c_t (by omega)]
      · rw [e285_12 (d + 4), x1.2.2.1, c2_ge (by omega) (by omega) (by omega) (by omega), c_t (by omega)]
    · have ha : a < N := by omega
      have hc := x1.2.2.2 a ha
      have hC : rn L xs (d + 4) 47 43 [.ref 6, v1, .int (i32 a), v3] [] σ = cond (decide (c a = 123)) (rn L xs (d + 4) 47 66 [.ref 6, v1, .int (i32 a), .int (i32 (a + 1 : Nat))] [] σ) (rn L xs (d + 4) 47 110 [.ref 6, v1, .int (i32 a), .int (i32 (a + 1 : Nat))] [] σ) := by
        rw [e47_43 (d + 3), x1.2.1, c2_ge (by omega) (by omega) (by omega) (by omega), c_f (by omega), c_in (by omega) (by omega) (by omega), i32_ixn (by omega), hc.2.2.1, b8_ne hc.2.1 123 (by decide), cnd_not, i32_n1]
      have hM : rn L xs (d + 5) 285 12 [.ref 123, .int (i32 a), u2, u3, u4] [] τ = cond (ltr (c a)) (rn L xs (d + 5) 285 43 [.ref 123, .int (i32 a), .int (i32 (c a)), .int 1, dj u4] [] τ) (rn L xs (d + 5) 285 84 [.ref 123, .int (i32 a), .int (i32 (c a)), .int 1, dj u4] [] τ) := by
        rw [e285_12 (d + 4), x1.2.2.1, c2_ge (by omega) (by omega) (by omega) (by omega), c_f (by omega), x6, show pv_c1 .ne 0 = false from rfl, cond_false, c_in (by omega) (by omega) (by omega), i32_ixn (by omega), hc.2.2.2, bI_ok (isSmall_ok hc.2.1 (d + 2) τ), c1_eq_bN]
      have hM2 : ltr (c a) = false → rn L xs (d + 5) 285 12 [.ref 123, .int (i32 a), u2, u3, u4] [] τ = cond (dgt (c a)) (rn L xs (d + 5) 285 91 [.ref 123, .int (i32 a), .int (i32 (c a)), .int 1, dj (dj u4)] [] τ) (rn L xs (d + 5) 285 119 [.ref 123, .int (i32 a), .int (i32 (c a)), .int 1, dj (dj u4)] [] τ) := by
        intro hl
        rw [hM, hl, cond_false, e285_84 (d + 4), bI_ok (isDig_ok hc.2.1 (d + 2) τ), c1_eq_bN]
      -- reading one of the component, where it is no comment and no blank
      have hR : c a ≠ 123 → c a ≠ 32 → c a ≠ 10 → rn L xs (d + 4) 47 43 [.ref 6, v1, .int (i32 a), v3] [] σ = bI (rn L xs (d + 3) 48 0 [.ref 6, .int (i32 a), jv] [] σ) (fun a2 s1 => rn L xs (d + 4) 47 138 [.ref 6, dj v1, .int (i32 a), .int a2] [] s1) X0 := by
        intro q1 q2 q3
        rw [hC, decide_eq_false q1, cond_false, e47_110 (d + 3), c_in (by omega) (by omega) (by omega), i32_ixn (by omega), hc.2.2.1, b8_eq hc.2.1 32 (by decide), decide_eq_false q2, cond_false, b8_eq hc.2.1 10 (by decide), decide_eq_false q3, cond_false]
        rw [show ∀ {x : tvR}, cond (pv_in (i32 (a : Int)) 3000) x none = x from fun {x} => c_in (by omega) (by omega) (by omega)]
      have hB : ∀ (σ1 : tvS) (v : Value), rn L xs (d + 4) 47 138 [.ref 6, v, .int (i32 a), .int (i32 (-1))] [] σ1 = some (.inl (some (.int (i32 a))), σ1) := by
        intro σ1 v
        rw [e47_138 (d + 3)]
        show cond (pv_c2 .ne (i32 (-1)) (i32 (-1))) _ _ = _
        rw [c2_ne (by omega) (by omega) (by omega) (by omega), c_f (by omega)]
      have hG : ∀ (σ1 : tvS) (v : Value) (n : Nat), n ≤ 3002 → rn L xs (d + 4) 47 138 [.ref 6, v, .int (i32 a), .int (i32 n)] [] σ1 = rn L xs (d + 4) 47 43 [.ref 6, jk v, .int (i32 n), .int (i32 n)] [] σ1 := by
        intro σ1 v n hn
        rw [e47_138 (d + 3)]
        show cond (pv_c2 .ne (i32 n) (i32 (-1))) _ _ = _
        rw [c2_ne (by omega) (by omega) (by omega) (by omega), c_t (by omega), e47_145 (d + 3)]
      -- a fault
      have hF : ∀ (τ1 : tvS) (w2 w3 w4 : Value) (σ1 : tvS), rd τ1 123 5 = 1 → rd τ1 123 6 = i32 a → (∃ m : Nat, m ≤ 3001 ∧ rd τ1 123 8 = i32 m) → frLC σ σ1 → frLM τ τ1 → rn L xs (d + 4) 47 43 [.ref 6, v1, .int (i32 a), v3] [] σ = some (.inl (some (.int (i32 a))), σ1) → (∃ x, rn L xs (d + 5) 285 12 [.ref 123, .int (i32 a), u2, u3, u4] [] τ = rn L xs (d + 5) 285 12 [.ref 123, .int x, w2, w3, w4] [] τ1) → lexO L xs c N d a σ τ v1 v3 u2 u3 u4 := by
        intro τ1 w2 w3 w4 σ1 b1 b2 b3 b4 b5 b6 ⟨x, b7⟩
        obtain ⟨y1, y2, y3, y4, e⟩ := mout_ok (L := L) (xs := xs) (d + 4) jv w2 w3 w4 x b1
        exact Or.inr ⟨a, σ1, τ1, y1, y2, y3, y4, ha, ⟨b1, b2, b3⟩, b4, b5, b6, b7.trans e⟩
      -- one lexeme more
      have hS : ∀ (n m' nm' : Nat) (σ1 τ1 : tvS) (v w2 w4 : Value), 1 ≤ n → LX c N (a + n) m' nm' σ1 τ1 → NUX c (a + n) m' → frLC σ σ1 → frLM τ τ1 → rn L xs (d + 4) 47 43 [.ref 6, v1, .int (i32 a), v3] [] σ = rn L xs (d + 4) 47 138 [.ref 6, v, .int (i32 a), .int (i32 (a + n : Nat))] [] σ1 → rn L xs (d + 5) 285 12 [.ref 123, .int (i32 a), u2, u3, u4] [] τ = rn L xs (d + 5) 285 235 [.ref 123, .int (i32 a), w2, .int (i32 n), w4] [] τ1 → lexO L xs c N d a σ τ v1 v3 u2 u3 u4 := by
        intro n m' nm' σ1 τ1 v w2 w4 b1 b2 b2' b3 b4 b5 b6
        have hle := b2.2.2.2.2.2.2.2.1
        rw [hG σ1 v (a + n) (by omega)] at b5
        rw [e285_235 (d + 4), i32_nn] at b6
        rcases ih (a + n) m' nm' σ1 τ1 (jk v) (.int (i32 (a + n : Nat))) w2 (.int (i32 n)) w4 (by omega) b2 b2' with ⟨m2, nm2, σ2, τ2, w1, w2', w3, y1, y2, y3, y4, g1, g2, g3, g4, g5⟩ | ⟨p, σ2, τ2, y1, y2, y3, y4, g0, g1, g2, g3, g4, g5⟩
        · exact Or.inl ⟨m2, nm2, σ2, τ2, w1, w2', w3, y1, y2, y3, y4, g1, b3.trans g2, b4.trans g3, b5.trans g4, b6.trans g5⟩
        · exact Or.inr ⟨p, σ2, τ2, y1, y2, y3, y4, g0, g1, b3.trans g2, b4.trans g3, b5.trans g4, b6.trans g5⟩
      have fF : frLM τ (wr (wr τ 123 5 1) 123 6 (i32 a)) := by
        refine ⟨fun k i q => ?_, rfl⟩
        simp only [rd_wr]
        rw [if_neg (by omega), if_neg (by omega)]
      have fF5 : rd (wr (wr τ 123 5 1) 123 6 (i32 a)) 123 5 = 1 := by rw [wr_nei (by decide), wr_self]
      have fF8 : rd (wr (wr τ 123 5 1) 123 6 (i32 a)) 123 8 = i32 m := by rw [wr_nei (by decide), wr_nei (by decide)]; exact x4
      by_cases hl : ltr (c a) = true
      · have hl2 : 97 ≤ c a := by unfold ltr at hl; simp only [Bool.and_eq_true, Nat.ble_eq] at hl; omega
        have hl3 : c a ≤ 122 := by unfold ltr at hl; simp only [Bool.and_eq_true, Nat.ble_eq] at hl; omega
        have hR' := hR (by omega) (by omega) (by omega)
        rw [hl, cond_true] at hM
        rcases lex_name (L := L) (xs := xs) hh0 d ha hl (.int (i32 (c a))) (dj u4) with ⟨w2, w4, r1, r2⟩ | ⟨n, nm', σ1, τ1, w2, w4, r0, r1, r2, r3, r4, r5⟩
        · rw [bI_ok r1, hB] at hR'
          refine hF _ w2 (.int (i32 (rnm c N a))) w4 σ fF5 (wr_self _ _ _ _) ⟨m, by omega, fF8⟩ frLC.refl fF hR' ⟨_, (hM.trans r2).trans (e285_235 (d + 4) _ _ _ _ _)⟩
        · rw [bI_ok r1] at hR'
          exact hS n (m + 1) nm' σ1 τ1 _ w2 w4 r0.1 r3 (hNU.tok n r0.1 r0.2) r4 r5 hR' (hM.trans r2)
      · have hl : ltr (c a) = false := by cases e : ltr (c a) with | false => rfl | true => exact absurd e hl
        have hM2' := hM2 hl
        by_cases hd : dgt (c a) = true
        · have hl2 := dgt_lt hd
          have hR' := hR (by omega) (by omega) (by omega)
          rw [hd, cond_true] at hM2'
          rcases lex_num (L := L) (xs := xs) hh0 d ha hl hd (.int (i32 (c a))) (dj (dj u4)) with ⟨w2, w4, r1, r2⟩ | ⟨n, σ1, τ1, w2, w4, r0, r1, r2, r3, r4, r5⟩
          · rw [bI_ok r1, hB] at hR'
            refine hF _ w2 (.int (i32 (rdg c N a))) w4 σ fF5 (wr_self _ _ _ _) ⟨m, by omega, fF8⟩ frLC.refl fF hR' ⟨_, (hM2'.trans r2).trans (e285_235 (d + 4) _ _ _ _ _)⟩
          · rw [bI_ok r1] at hR'
            exact hS n (m + 1) nm σ1 τ1 _ w2 w4 r0.1 r3 (hNU.tok n r0.1 r0.2) r4 r5 hR' (hM2'.trans r2)
        · have hd : dgt (c a) = false := by cases e : dgt (c a) with | false => rfl | true => exact absurd e hd
          rw [hd, cond_false] at hM2'
          by_cases h123 : c a = 123
          · -- a comment
            have hle : a + 1 + rcm c N a ≤ N := run_le (by omega)
            rw [decide_eq_true h123, cond_true] at hC
            have e1 := ccom_loop (L := L) (xs := xs) x1 (d + 3) a ha v1 (rcm c N a) 0 (by omega)
            rw [show a + 1 + 0 = a + 1 by omega] at e1
            rw [e1, e47_91 (d + 3), x1.2.1, c2_ge (by omega) (by omega) (by omega) (by omega)] at hC
            rw [e285_119 (d + 4), m8_ne hc.2.1 123 (by decide), cnd_not, decide_eq_true h123, cond_true] at hM2'
            obtain ⟨w2, w4, e2⟩ := mcom_loop (L := L) (xs := xs) x1 (d + 4) a ha (rcm c N a) 0 (.int (i32 (c a))) (dj (dj u4)) (by omega)
            have e2 : rn L xs (d + 5) 285 125 [.ref 123, .int (i32 a), .int (i32 (c a)), .int 1, dj (dj u4)] [] τ = _ := e2
            rw [e2, e285_154 (d + 4), i32_nn, x1.2.2.1, c2_ne (by omega) (by omega) (by omega) (by omega)] at hM2'
            rcases rcm_end (c := c) ha with e | ⟨e3, e4⟩
            · rw [c_t (by omega), e47_105 (d + 3), e47_106 (d + 3)] at hC
              rw [c_f (by omega), bV_ok (mfail_ok x6 (d + 3) _ _), e285_170 (d + 4), i32_n1] at hM2'
              refine hF _ (jk (dj w2)) (.int (i32 (1 + rcm c N a + 1 : Nat))) (dj w4) σ fF5 (wr_self _ _ _ _) ⟨m, by omega, fF8⟩ frLC.refl fF (hC.trans (hB σ v1)) ⟨_, hM2'.trans (e285_235 (d + 4) _ _ _ _ _)⟩
            · rw [c_f (by omega), e47_106 (d + 3), i32_n1] at hC
              rw [c_t (by omega), e285_170 (d + 4), i32_n1] at hM2'
              refine hS (1 + rcm c N a + 1) m nm σ τ v1 (jk w2) w4 (by omega) (hh0.later (by omega) (by omega)) (hNU.note h123 (fun i hi q => ?_) e4) frLC.refl frLM.refl ?_ hM2'
              · have := run_at (p := ncl c) (N := N) (s := a + 1) (i := i) hi
                unfold ncl at this
                rw [q] at this; cases this
              rw [show a + (1 + rcm c N a + 1) = a + 1 + rcm c N a + 1 by omega]
              exact hC
          · rw [decide_eq_false h123, cond_false] at hC
            by_cases h32 : c a = 32
            · rw [e47_110 (d + 3), c_in (by omega) (by omega) (by omega), i32_ixn (by omega), hc.2.2.1, b8_eq hc.2.1 32 (by decide), decide_eq_true h32, cond_true] at hC
              rw [e285_119 (d + 4), m8_ne hc.2.1 123 (by decide), cnd_not, decide_eq_false h123, cond_false, e285_176 (d + 4), m8_eq hc.2.1 32 (by decide), decide_eq_true h32, cond_true] at hM2'
              exact hS 1 m nm σ τ v1 _ _ (by omega) (hh0.later (by omega) (by omega)) (hNU.blank (.inl h32)) frLC.refl frLM.refl hC hM2'
            · by_cases h10 : c a = 10
              · rw [e47_110 (d + 3), c_in (by omega) (by omega) (by omega), i32_ixn (by omega), hc.2.2.1, b8_eq hc.2.1 32 (by decide), decide_eq_false h32, cond_false, c_in (by omega) (by omega) (by omega), b8_eq hc.2.1 10 (by decide), decide_eq_true h10, cond_true] at hC
                rw [e285_119 (d + 4), m8_ne hc.2.1 123 (by decide), cnd_not, decide_eq_false h123, cond_false, e285_176 (d + 4), m8_eq hc.2.1 32 (by decide), decide_eq_false h32, cond_false, m8_eq hc.2.1 10 (by decide), decide_eq_true h10, cond_true] at hM2'
                exact hS 1 m nm σ τ v1 _ _ (by omega) (hh0.later (by omega) (by omega)) (hNU.blank (.inr h10)) frLC.refl frLM.refl hC hM2'
              · have hR' := hR h123 h32 h10
                rcases lex_sign (L := L) (xs := xs) hh0 d ha hl hd h123 h32 h10 (dj (dj u4)) with ⟨w2, w4, r1, r2⟩ | ⟨n, σ1, τ1, w2, w4, r0, r1, r2, r3, r4, r5⟩
                · rw [bI_ok r1, hB] at hR'
                  obtain ⟨j1, j2, j3, j4, j5, j6, j7, j8⟩ := mAdd_at (τ := wr (wr τ 123 5 1) 123 6 (i32 a)) (m := m) (μ := 0) (s := i32 a) (n := 1) (w := 0)
                  refine hF _ w2 (.int 1) w4 σ (j7.trans fF5) ?_ ⟨m + 1, by omega, j5⟩ frLC.refl (fF.trans fr_mAdd) hR' ⟨_, (hM2'.trans r2).trans (e285_235 (d + 4) _ _ _ _ _)⟩
                  unfold mAdd
                  simp [rd_wr]
                · rw [bI_ok r1] at hR'
                  exact hS n (m + 1) nm σ1 τ1 _ w2 w4 r0.1 r3 (hNU.tok n r0.1 r0.2) r4 r5 hR' (hM2'.trans r2)
end LEX9
