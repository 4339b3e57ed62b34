/-! READING: lexemes at hand, faults -/
theorem sgC_inj : ∀ a, a < 36 → ∀ b, b < 36 → 20 ≤ a → 20 ≤ b → sgC a = sgC b → a = b := by decide +kernel
theorem sgC_lt : ∀ a, a < 36 → 20 ≤ a → sgC a < 300 := by decide +kernel
section RD1
variable {L : Nat} {xs : Nat → Int32} {m : Nat} {σ τ : tvS}
theorem LV.wrC (h : LV m σ τ) {k i : Nat} {x : Int32} (hk : inL [10, 11, 13] k = false) : LV m (wr σ k i x) τ := by
  have e : ∀ j, inL [10, 11, 13] j = true → ∀ i', rd (wr σ k i x) j i' = rd σ j i' := fun j hj i' => wr_nek (fun q => by rw [q, hk] at hj; cases hj)
  unfold LV at h ⊢
  simp only [e 10 rfl, e 11 rfl, e 13 rfl, rl_wr]
  exact h
theorem LV.wlC (h : LV m σ τ) {k i : Nat} {x : Int64} (hk : k ≠ 12) : LV m (wl σ k i x) τ := by
  have e : ∀ i', rl (wl σ k i x) 12 i' = rl σ 12 i' := fun i' => by rw [rl_wl, if_neg (fun q => hk q.1.symm)]
  unfold LV at h ⊢
  simp only [e, rd_wl]
  exact h
theorem LV.wrM (h : LV m σ τ) {k i : Nat} {x : Int32} (hk : inL [126, 127, 129] k = false) : LV m σ (wr τ k i x) := by
  have e : ∀ j, inL [126, 127, 129] j = true → ∀ i', rd (wr τ k i x) j i' = rd τ j i' := fun j hj i' => wr_nek (fun q => by rw [q, hk] at hj; cases hj)
  have em : mu (wr τ k i x) = mu τ := by funext j; unfold mu; rw [e 126 rfl]
  unfold LV at h ⊢
  simp only [e 126 rfl, e 127 rfl, e 129 rfl, em]
  exact h
theorem LV.xnC (h : LV m σ τ) : LV m (xn σ) τ := h
theorem LV.gwC (h : LV m σ τ) {k n : Nat} (hk : inL [10, 11, 13] k = false) : LV m (gw σ k n) τ := by
  have e : ∀ j, inL [10, 11, 13] j = true → ∀ i', rd (gw σ k n) j i' = rd σ j i' := fun j hj i' => by rw [rd_gw, if_neg (fun q => by rw [q, hk] at hj; cases hj)]
  unfold LV at h ⊢
  simp only [e 10 rfl, e 11 rfl, e 13 rfl]
  exact h
theorem mu_wr {k i : Nat} {x : Int32} (hk : k ≠ 126) (j : Nat) : mu (wr τ k i x) j = mu τ j := by unfold mu; rw [wr_nek (fun q => hk q.symm)]
/-! tests -/
theorem ck_name (h : LV m σ τ) {A : Nat} (hA : A ≤ m) : pv_c2 .eq (rd σ 10 A) 1 = decide (mu τ A = 1) := by
  obtain ⟨x1, x2, x3, x4, x5, x6, x7, x8⟩ := h
  rw [c2_eqx]
  refine decide_eq_decide.mpr ?_
  by_cases q : A = m
  · rw [q, x5, x3]; decide
  · rcases x4 A (by omega) with ⟨b1, b2⟩ | ⟨b1, b2, b3⟩ | ⟨b1, b2, b3, b4⟩ | ⟨b1, b2, b3, b4⟩
    · rw [b2, b1]; decide
    · rw [b2, b1]; decide
    · rw [b3]; constructor
      · intro q; exact absurd q (by decide)
      · intro q; omega
    · rw [b3]; constructor
      · intro q; exact absurd q (by decide)
      · intro q; omega
theorem ck_num (h : LV m σ τ) {A : Nat} (hA : A ≤ m) : pv_c2 .eq (rd σ 10 A) 2 = decide (mu τ A = 2) := by
  obtain ⟨x1, x2, x3, x4, x5, x6, x7, x8⟩ := h
  rw [c2_eqx]
  refine decide_eq_decide.mpr ?_
  by_cases q : A = m
  · rw [q, x5, x3]; decide
  · rcases x4 A (by omega) with ⟨b1, b2⟩ | ⟨b1, b2, b3⟩ | ⟨b1, b2, b3, b4⟩ | ⟨b1, b2, b3, b4⟩
    · rw [b2, b1]; decide
    · rw [b2, b1]; decide
    · rw [b3]; constructor
      · intro q; exact absurd q (by decide)
      · intro q; omega
    · rw [b3]; constructor
      · intro q; exact absurd q (by decide)
      · intro q; omega
theorem ck_ne (x y : Int32) : pv_c2 .ne x y = !(pv_c2 .eq x y) := by rw [c2_nex, c2_eqx, decide_not]
theorem ck_end (h : LV m σ τ) {A : Nat} (hA : A ≤ m) : pv_c1 .eq (rd σ 10 A) = decide (mu τ A = 36) := by
  obtain ⟨x1, x2, x3, x4, x5, x6, x7, x8⟩ := h
  rw [c1_eqx]
  refine decide_eq_decide.mpr ?_
  by_cases q : A = m
  · rw [q, x5, x3]; decide
  · rcases x4 A (by omega) with ⟨b1, b2⟩ | ⟨b1, b2, b3⟩ | ⟨b1, b2, b3, b4⟩ | ⟨b1, b2, b3, b4⟩
    · rw [b2, b1]; decide
    · rw [b2, b1]; decide
    · rw [b3]; constructor
      · intro q; exact absurd q (by decide)
      · intro q; omega
    · rw [b3]; constructor
      · intro q; exact absurd q (by decide)
      · intro q; omega
theorem cword_ok (h : LV m σ τ) {k w : Nat} (hk : k ≤ m) (hw : w < 13) (d : Nat) : rn L xs (d + 1) 56 0 [.ref 6, .int (i32 k), .int (i32 w)] [] σ = some (.inl (some (.int (bN (decide (mu τ k = 3 + w))))), σ) := by
  obtain ⟨x1, x2, x3, x4, x5, x6, x7, x8⟩ := h
  rw [e56_0, c_in (by omega) (by omega) (by omega), c_in (by omega) (by omega) (by omega), i32_ixn (by omega)]
  have key : (pv_c2 .ne (rd σ 10 k) 4 = true ∧ ¬ mu τ k = 3 + w) ∨ (pv_c2 .ne (rd σ 10 k) 4 = false ∧ pv_c2 .ne (rd σ 11 k) (i32 w) = !(decide (mu τ k = 3 + w))) := by
    by_cases q : k = m
    · rw [q, x5, x3]; exact Or.inl ⟨rfl, by omega⟩
    · rcases x4 k (by omega) with ⟨b1, b2⟩ | ⟨b1, b2, b3⟩ | ⟨b1, b2, b3, b4⟩ | ⟨b1, b2, b3, b4⟩
      · rw [b2]; exact Or.inl ⟨rfl, by omega⟩
      · rw [b2]; exact Or.inl ⟨rfl, by omega⟩
      · rw [b3, b4]
        refine Or.inr ⟨rfl, ?_⟩
        rw [c2_ne (by omega) (by omega) (by omega) (by omega), ← decide_not]
        exact decide_eq_decide.mpr (by omega)
      · rw [b3]; exact Or.inl ⟨rfl, by omega⟩
  rcases key with ⟨e1, e2⟩ | ⟨e1, e2⟩
  · rw [e1, cond_true, e56_24, e56_25, decide_eq_false e2]; rfl
  · rw [e1, cond_false, e2, cnd_not]
    by_cases q : mu τ k = 3 + w
    · rw [decide_eq_true q, cond_true, e56_25]; rfl
    · rw [decide_eq_false q, cond_false, e56_24, e56_25]; rfl
theorem csgn_ok (h : LV m σ τ) {k μ : Nat} (hk : k ≤ m) (h1 : 20 ≤ μ) (h2 : μ ≤ 35) (d : Nat) : rn L xs (d + 1) 60 0 [.ref 6, .int (i32 k), .int (i32 (sgC μ))] [] σ = some (.inl (some (.int (bN (decide (mu τ k = μ))))), σ) := by
  obtain ⟨x1, x2, x3, x4, x5, x6, x7, x8⟩ := h
  have hs := sgC_lt μ (by omega) h1
  rw [e60_0, c_in (by omega) (by omega) (by omega), c_in (by omega) (by omega) (by omega), i32_ixn (by omega)]
  have key : (pv_c2 .ne (rd σ 10 k) 3 = true ∧ ¬ mu τ k = μ) ∨ (pv_c2 .ne (rd σ 10 k) 3 = false ∧ pv_c2 .ne (rd σ 11 k) (i32 (sgC μ)) = !(decide (mu τ k = μ))) := by
    by_cases q : k = m
    · rw [q, x5, x3]; exact Or.inl ⟨rfl, by omega⟩
    · rcases x4 k (by omega) with ⟨b1, b2⟩ | ⟨b1, b2, b3⟩ | ⟨b1, b2, b3, b4⟩ | ⟨b1, b2, b3, b4⟩
      · rw [b2]; exact Or.inl ⟨rfl, by omega⟩
      · rw [b2]; exact Or.inl ⟨rfl, by omega⟩
      · rw [b3]; exact Or.inl ⟨rfl, by omega⟩
      · have hs2 := sgC_lt (mu τ k) (by omega) b1
        have hi := sgC_inj (mu τ k) (by omega) μ (by omega) b1 h1
        rw [b3, b4]
        refine Or.inr ⟨rfl, ?_⟩
        rw [c2_ne (by omega) (by omega) (by omega) (by omega), ← decide_not]
        refine decide_eq_decide.mpr ⟨fun q p => q (by rw [p]), fun q p => q (hi (by omega))⟩
  rcases key with ⟨e1, e2⟩ | ⟨e1, e2⟩
  · rw [e1, cond_true, e60_24, e60_25, decide_eq_false e2]; rfl
  · rw [e1, cond_false, e2, cnd_not]
    by_cases q : mu τ k = μ
    · rw [decide_eq_true q, cond_true, e60_25]; rfl
    · rw [decide_eq_false q, cond_false, e60_24, e60_25]; rfl
theorem rword_ok (h : LV m σ τ) {A w : Nat} (hA : A ≤ m) (hat : rd σ 62 3 = i32 A) (hw : w < 13) (d : Nat) : rn L xs (d + 2) 109 0 [.ref 62, .int (i32 w)] [] σ = some (.inl (some (.int (bN (decide (mu τ A = 3 + w))))), σ) := by
  rw [e109_0 (d + 1), hat, bI_ok (cword_ok h hA hw d), b01_bN]; rfl
theorem rsign_ok (h : LV m σ τ) {A μ : Nat} (hA : A ≤ m) (hat : rd σ 62 3 = i32 A) (h1 : 20 ≤ μ) (h2 : μ ≤ 35) (d : Nat) : rn L xs (d + 2) 114 0 [.ref 62, .int (i32 (sgC μ))] [] σ = some (.inl (some (.int (bN (decide (mu τ A = μ))))), σ) := by
  rw [e114_0 (d + 1), hat, bI_ok (csgn_ok h hA h1 h2 d), b01_bN]; rfl
/-- a fault of the reader -/
def cFlt (σ : tvS) (k p : Int32) : tvS := xn (wr (wr σ 5 0 k) 5 1 p)
theorem cfail_ok (h : LV m σ τ) {A : Nat} (hA : A ≤ m) (hr : xnOK σ = true) (d : Nat) (k : Int32) : rn L xs (d + 2) 111 0 [.ref 62, .int k, .int (i32 A)] [] σ = some (.inr (1016, (rm σ).1), cFlt σ k (rd σ 13 A)) := by
  have hm := h.1
  have e1 : rn L xs (d + 1) 58 0 [.ref 6, .int (i32 A)] [] σ = some (.inl (some (.int (rd σ 13 A))), σ) := by
    rw [e58_0, c_in (by omega) (by omega) (by omega), i32_ixn (by omega)]
  have e2 : rn L xs (d + 1) 45 0 [.ref 5, .int k, .int (rd σ 13 A)] [] σ = some (.inr (1016, (rm σ).1), cFlt σ k (rd σ 13 A)) := by
    rw [e45_0, show xnOK (wr (wr σ 5 0 k) 5 1 (rd σ 13 A)) = true from hr, cond_true]
    rfl
  rw [e111_0 (d + 1), bI_ok e1, bV_ex e2]
  rfl
theorem rtake_ok (h : LV m σ τ) {A μ : Nat} (hA : A ≤ m) (hat : rd σ 62 3 = i32 A) (h1 : 20 ≤ μ) (h2 : μ ≤ 35) (d : Nat) : rn L xs (d + 3) 113 0 [.ref 62, .int (i32 (sgC μ)), jv] [] σ = some (.inl (some (.int (bN (decide (mu τ A = μ))))), if mu τ A = μ then wr σ 62 3 (i32 (A + 1 : Nat)) else σ) := by
  rw [e113_0 (d + 2), bI_ok (rsign_ok h hA hat h1 h2 d), c1_eq_bN]
  by_cases q : mu τ A = μ
  · rw [decide_eq_true q, cond_true, hat, i32_n1, e113_20 (d + 2), b01_bN, if_pos q]; rfl
  · rw [decide_eq_false q, cond_false, e113_20 (d + 2), b01_bN, if_neg q]; rfl
theorem rmust_ok (h : LV m σ τ) {A μ : Nat} (hA : A ≤ m) (hat : rd σ 62 3 = i32 A) (h1 : 20 ≤ μ) (h2 : μ ≤ 35) (hr : xnOK σ = true) (d : Nat) : rn L xs (d + 4) 112 0 [.ref 62, .int (i32 (sgC μ))] [] σ = if mu τ A = μ then some (.inl none, wr σ 62 3 (i32 (A + 1 : Nat))) else some (.inr (1016, (rm σ).1), cFlt σ 2 (rd σ 13 A)) := by
  rw [e112_0 (d + 3), bI_ok (rtake_ok h hA hat h1 h2 d), c1_ne_bN]
  by_cases q : mu τ A = μ
  · rw [decide_eq_true q, cond_true, if_pos q, if_pos q, e112_17 (d + 3)]
  · rw [decide_eq_false q, cond_false, if_neg q, if_neg q, hat, bV_ex (cfail_ok h hA hr (d + 1) 2)]
    rfl
theorem rmustw_ok (h : LV m σ τ) {A w : Nat} (hA : A ≤ m) (hat : rd σ 62 3 = i32 A) (hw : w < 13) (hr : xnOK σ = true) (d : Nat) : rn L xs (d + 3) 122 0 [.ref 62, .int (i32 w)] [] σ = if mu τ A = 3 + w then some (.inl none, wr σ 62 3 (i32 (A + 1 : Nat))) else some (.inr (1016, (rm σ).1), cFlt σ 2 (rd σ 13 A)) := by
  rw [e122_0 (d + 2), bI_ok (rword_ok h hA hat hw d), c1_ne_bN]
  by_cases q : mu τ A = 3 + w
  · rw [decide_eq_true q, cond_true, if_pos q, e122_17 (d + 2), hat, i32_n1]
  · rw [decide_eq_false q, cond_false, if_neg q, hat, bV_ex (cfail_ok h hA hr d 2)]
    rfl
/-! the model -/
theorem mkind_ok (h : LV m σ τ) {A : Nat} (hA : A ≤ m) (hat : rd τ 123 17 = i32 A) (d : Nat) : rn L xs (d + 1) 299 0 [.ref 123] [] τ = some (.inl (some (.int (i32 (mu τ A)))), τ) := by
  have hm := h.1
  rw [e299_0, hat, c_in (by omega) (by omega) (by omega), i32_ixn (by omega), (h.2.1 A hA).1]
def mFlt (τ : tvS) (k p : Int32) : tvS := wr (wr τ 123 5 k) 123 6 p
theorem mtake_ok (h : LV m σ τ) {A μ : Nat} (hA : A ≤ m) (hat : rd τ 123 17 = i32 A) (hμ : μ ≤ 36) (hf : rd τ 123 5 = 0) (d : Nat) : rn L xs (d + 2) 303 0 [.ref 123, .int (i32 μ)] [] τ = if mu τ A = μ then some (.inl (some (.int 1)), wr τ 123 17 (i32 (A + 1 : Nat))) else some (.inl (some (.int 0)), mFlt τ 2 (rd τ 127 A)) := by
  have hm := h.1
  have hk := (h.2.1 A hA).2.2
  rw [e303_0 (d + 1), bI_ok (mkind_ok h hA hat d), c2_eq (by omega) (by omega) (by omega) (by omega), hat]
  by_cases q : mu τ A = μ
  · rw [if_pos q, c_t (by omega), e303_24 (d + 1), hat, i32_n1]
  · rw [if_neg q, c_f (by omega), c_in (by omega) (by omega) (by omega), i32_ixn (by omega), bV_ok (mfail_ok hf d _ _)]
    rfl
def mPush (τ : tvS) (n : Nat) (x a b : Int32) : tvS := wr (wr (wr (wr τ 132 n x) 133 n a) 134 n b) 123 18 (i32 (n + 1 : Nat))
theorem mpush_ok {n : Nat} (hn : rd τ 123 18 = i32 n) (hlt : n < 40000) (d : Nat) (x a b : Int32) : rn L xs (d + 1) 309 0 [.ref 123, .int x, .int a, .int b] [] τ = some (.inl none, mPush τ n x a b) := by
  rw [e309_0, hn, c_in (by omega) (by omega) (by omega), c_in (by omega) (by omega) (by omega), c_in (by omega) (by omega) (by omega), i32_ixn (by omega), i32_n1]
  rfl
theorem mhold_ok {r : Nat} (hr : rd τ 123 22 = i32 r) (hlt : r < 6000) (d : Nat) (p a b : Int32) : rn L xs (d + 1) 314 0 [.ref 123, .int p, .int a, .int b] [] τ = some (.inl none, wr (wr (wr (wr τ 135 r p) 136 r a) 137 r b) 123 22 (i32 (r + 1 : Nat))) := by
  rw [e314_0, hr, c_in (by omega) (by omega) (by omega), c_in (by omega) (by omega) (by omega), c_in (by omega) (by omega) (by omega), i32_ixn (by omega), i32_n1]
end RD1
