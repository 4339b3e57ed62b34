/-! LEXEMES: what both have of them -/
def sgC (μ : Nat) : Nat := if μ < 24 then 236 + μ else [40, 41, 44, 59, 61, 60, 43, 45, 42, 47, 37, 124].getD (μ - 24) 0
def lexK (c : Nat → Nat) (N nm : Nat) (σ τ : tvS) (k s e μ : Nat) : Prop :=
  (μ = 1 ∧ rd σ 10 k = 1 ∧ rl σ 12 k = Int64.ofNat (pkc c s (e - s)) ∧ pkc c s (e - s) < 9223372036854775808 ∧ ∃ w, w < nm ∧ rd τ 129 k = i32 w ∧ pkR c N τ w = pkc c s (e - s)) ∨
  (μ = 2 ∧ rd σ 10 k = 2 ∧ rd σ 11 k = rd τ 129 k) ∨
  (3 ≤ μ ∧ μ ≤ 15 ∧ rd σ 10 k = 4 ∧ rd σ 11 k = i32 (μ - 3 : Nat)) ∨
  (20 ≤ μ ∧ μ ≤ 35 ∧ rd σ 10 k = 3 ∧ rd σ 11 k = i32 (sgC μ))
def lexR (c : Nat → Nat) (N nm : Nat) (σ τ : tvS) (k : Nat) : Prop := ∃ s e μ : Nat, s < e ∧ e ≤ N ∧ rd σ 13 k = i32 s ∧ rd σ 14 k = i32 e ∧ rd τ 127 k = i32 s ∧ rd τ 128 k = i32 (e - s : Nat) ∧ rd τ 126 k = i32 μ ∧ (∀ i, s ≤ i → i < e → c i < 128) ∧ (μ ≠ 2 → μ < 20 → e = s + rnm c N s) ∧ (μ = 2 → e = s + rdg c N s) ∧ lexK c N nm σ τ k s e μ
/-- what the two have not touched -/
def frLC (σ σ' : tvS) : Prop := (∀ k i, ¬ (k = 10 ∨ k = 11 ∨ k = 13 ∨ k = 14 ∨ (k = 6 ∧ i = 9)) → rd σ' k i = rd σ k i) ∧ (∀ k i, k ≠ 12 → rl σ' k i = rl σ k i) ∧ σ'.2.2 = σ.2.2
def frLM (τ τ' : tvS) : Prop := (∀ k i, ¬ (k = 126 ∨ k = 127 ∨ k = 128 ∨ k = 129 ∨ k = 131 ∨ (k = 123 ∧ (i = 5 ∨ i = 6 ∨ i = 8 ∨ i = 15))) → rd τ' k i = rd τ k i) ∧ τ'.2 = τ.2
theorem frLC.trans {a b e : tvS} (h : frLC a b) (h' : frLC b e) : frLC a e := ⟨fun k i q => (h'.1 k i q).trans (h.1 k i q), fun k i q => (h'.2.1 k i q).trans (h.2.1 k i q), h'.2.2.trans h.2.2⟩
theorem frLM.trans {a b e : tvS} (h : frLM a b) (h' : frLM b e) : frLM a e := ⟨fun k i q => (h'.1 k i q).trans (h.1 k i q), h'.2.trans h.2⟩
theorem frLC.refl {a : tvS} : frLC a a := ⟨fun _ _ _ => rfl, fun _ _ _ => rfl, rfl⟩
theorem frLM.refl {a : tvS} : frLM a a := ⟨fun _ _ _ => rfl, rfl⟩
def LX (c : Nat → Nat) (N a m nm : Nat) (σ τ : tvS) : Prop :=
  TX c N σ τ ∧ (∀ w, w < 13 → rl σ 8 w = rl0 8 w) ∧ rd σ 6 9 = i32 m ∧ rd τ 123 8 = i32 m ∧ rd τ 123 15 = i32 nm ∧ rd τ 123 5 = 0 ∧ m ≤ a ∧ a ≤ N ∧ nm ≤ m ∧
  (∀ k, k < m → lexR c N nm σ τ k) ∧ (∀ w, w < nm → ∃ t, t ≤ N ∧ rd τ 131 w = i32 t) ∧ (∀ w w', w < nm → w' < nm → pkR c N τ w = pkR c N τ w' → w = w') ∧ (∀ k, k + 1 < m → (rd σ 14 k).toInt ≤ (rd σ 13 (k + 1)).toInt) ∧ (∀ k, k + 1 = m → (rd σ 14 k).toInt ≤ a)
/-- signs that count: those outside of comments that are no blanks; whether one is in a comment there -/
def cst (c : Nat → Nat) : Nat → Bool × Nat
  | 0 => (false, 0)
  | i + 1 => if (cst c i).1 = true then (!decide (c i = 125), (cst c i).2) else if c i = 123 then (true, (cst c i).2) else (false, (cst c i).2 + if c i = 32 ∨ c i = 10 then 0 else 1)
def NUX (c : Nat → Nat) (a m : Nat) : Prop := (cst c a).1 = false ∧ m ≤ (cst c a).2
/-- signs of a lexeme -/
def TKc (c : Nat → Nat) (a n : Nat) : Prop := ∀ i, a ≤ i → i < a + n → c i ≠ 123 ∧ c i ≠ 32 ∧ c i ≠ 10
theorem NUX.one {c : Nat → Nat} {a m : Nat} (h : NUX c a m) (h1 : c a ≠ 123) (h2 : c a ≠ 32) (h3 : c a ≠ 10) : NUX c (a + 1) (m + 1) := by
  obtain ⟨h4, h5⟩ := h
  unfold NUX
  show (cst c (a + 1)).1 = false ∧ m + 1 ≤ (cst c (a + 1)).2
  have e : cst c (a + 1) = (false, (cst c a).2 + 1) := by
    show (if (cst c a).1 = true then _ else _) = _
    rw [h4, if_neg (by decide), if_neg h1, if_neg (fun q => q.elim h2 h3)]
  rw [e]; exact ⟨rfl, Nat.succ_le_succ h5⟩
theorem NUX.less {c : Nat → Nat} {a m m' : Nat} (h : NUX c a m) (hm : m' ≤ m) : NUX c a m' := ⟨h.1, Nat.le_trans hm h.2⟩
theorem NUX.tok {c : Nat → Nat} {a m : Nat} (h : NUX c a m) : ∀ n, 1 ≤ n → TKc c a n → NUX c (a + n) (m + 1) := by
  intro n
  induction n with
  | zero => intro h1; omega
  | succ n ih =>
    intro _ ht
    obtain ⟨t1, t2, t3⟩ := ht (a + n) (by omega) (by omega)
    by_cases q : n = 0
    · subst q; exact h.one t1 t2 t3
    · have := ih (by omega) (fun i h1 h2 => ht i h1 (by omega))
      exact (this.one t1 t2 t3).less (by omega)
theorem NUX.blank {c : Nat → Nat} {a m : Nat} (h : NUX c a m) (h2 : c a = 32 ∨ c a = 10) : NUX c (a + 1) m := by
  obtain ⟨h4, h5⟩ := h
  have e : cst c (a + 1) = (false, (cst c a).2 + 0) := by
    show (if (cst c a).1 = true then _ else _) = _
    rw [h4, if_neg (by decide), if_neg (by omega), if_pos h2]
  unfold NUX
  rw [e]; exact ⟨rfl, h5⟩
theorem NUX.note {c : Nat → Nat} {a m k : Nat} (h : NUX c a m) (h1 : c a = 123) (h2 : ∀ i, i < k → c (a + 1 + i) ≠ 125) (h3 : c (a + 1 + k) = 125) : NUX c (a + (1 + k + 1)) m := by
  obtain ⟨h4, h5⟩ := h
  have e0 : cst c (a + 1) = (true, (cst c a).2) := by
    show (if (cst c a).1 = true then _ else _) = _
    rw [h4, if_neg (by decide), if_pos h1]
  have e1 : ∀ j, j ≤ k → cst c (a + 1 + j) = (true, (cst c a).2) := by
    intro j
    induction j with
    | zero => intro _; exact e0
    | succ j ih =>
      intro hj
      have := ih (by omega)
      have hs : cst c (a + 1 + j + 1) = if (cst c (a + 1 + j)).1 = true then (!decide (c (a + 1 + j) = 125), (cst c (a + 1 + j)).2) else if c (a + 1 + j) = 123 then (true, (cst c (a + 1 + j)).2) else (false, (cst c (a + 1 + j)).2 + if c (a + 1 + j) = 32 ∨ c (a + 1 + j) = 10 then 0 else 1) := rfl
      rw [show a + 1 + (j + 1) = a + 1 + j + 1 by omega, hs, this, if_pos rfl, decide_eq_false (h2 j (by omega))]; rfl
  have e2 : cst c (a + 1 + k + 1) = (false, (cst c a).2) := by
    have hs : cst c (a + 1 + k + 1) = if (cst c (a + 1 + k)).1 = true then (!decide (c (a + 1 + k) = 125), (cst c (a + 1 + k)).2) else if c (a + 1 + k) = 123 then (true, (cst c (a + 1 + k)).2) else (false, (cst c (a + 1 + k)).2 + if c (a + 1 + k) = 32 ∨ c (a + 1 + k) = 10 then 0 else 1) := rfl
    rw [hs, e1 k (Nat.le_refl _), if_pos rfl, decide_eq_true h3]; rfl
  unfold NUX
  rw [show a + (1 + k + 1) = a + 1 + k + 1 by omega, e2]; exact ⟨rfl, h5⟩
section LEX6
variable {L : Nat} {xs : Nat → Int32} {c : Nat → Nat} {N : Nat} {σ τ σ' τ' : tvS}
theorem TX.fr (h : TX c N σ τ) (h1 : frLC σ σ') (h2 : frLM τ τ') : TX c N σ' τ' := by
  obtain ⟨a, b, e, f⟩ := h
  refine ⟨a, by rw [h1.1 6 3 (by omega)]; exact b, by rw [h2.1 123 13 (by omega)]; exact e, fun i hi => ?_⟩
  rw [h1.1 9 i (by omega), h2.1 130 i (by omega)]
  exact f i hi
theorem lexR.fr {nm nm' k : Nat} (h : lexR c N nm σ τ k) (hn : nm ≤ nm') (h1 : ∀ j, rd σ' j k = rd σ j k) (h2 : ∀ j, rl σ' j k = rl σ j k) (h3 : ∀ j, j ≠ 131 → j ≠ 123 → rd τ' j k = rd τ j k) (h4 : ∀ w, w < nm → rd τ' 131 w = rd τ 131 w) : lexR c N nm' σ' τ' k := by
  obtain ⟨s, e, μ, a1, a2, a3, a4, a5, a6, a7, a8, a10, a11, a9⟩ := h
  refine ⟨s, e, μ, a1, a2, by rw [h1]; exact a3, by rw [h1]; exact a4, by rw [h3 _ (by decide) (by decide)]; exact a5, by rw [h3 _ (by decide) (by decide)]; exact a6, by rw [h3 _ (by decide) (by decide)]; exact a7, a8, a10, a11, ?_⟩
  unfold lexK at a9 ⊢
  rw [h1, h1, h2, h3 _ (by decide) (by decide)]
  rcases a9 with ⟨b1, b2, b3, b4, w, b5, b6, b7⟩ | b | b | b
  · refine Or.inl ⟨b1, b2, b3, b4, w, by omega, b6, ?_⟩
    unfold pkR at b7 ⊢
    rw [h4 w b5]
    exact b7
  · exact Or.inr (Or.inl b)
  · exact Or.inr (Or.inr (Or.inl b))
  · exact Or.inr (Or.inr (Or.inr b))
/-- one lexeme more keeps all that was -/
theorem LX.push {a a' m nm nm' : Nat} (h : LX c N a m nm σ τ) (ha : a < a') (ha' : a' ≤ N) (f1 : frLC σ σ') (f2 : frLM τ τ') (hn : nm ≤ nm') (hn' : nm' ≤ nm + 1)
    (c1 : ∀ j k, k ≠ m → (j = 6 → k ≠ 9) → rd σ' j k = rd σ j k) (c2 : ∀ j k, k ≠ m → rl σ' j k = rl σ j k) (c3 : rd σ' 6 9 = i32 (m + 1 : Nat))
    (m1 : ∀ j k, k ≠ m → j ≠ 131 → j ≠ 123 → rd τ' j k = rd τ j k) (m2 : ∀ w, w < nm → rd τ' 131 w = rd τ 131 w) (m3 : rd τ' 123 8 = i32 (m + 1 : Nat)) (m4 : rd τ' 123 15 = i32 nm') (m5 : rd τ' 123 5 = 0)
    (o1 : rd σ' 13 m = i32 a) (o2 : rd σ' 14 m = i32 a') (k1 : lexR c N nm' σ' τ' m) (k2 : ∀ w, nm ≤ w → w < nm' → (∃ t, t ≤ N ∧ rd τ' 131 w = i32 t) ∧ ∀ w', w' < nm → pkR c N τ w' ≠ pkR c N τ' w) : LX c N a' (m + 1) nm' σ' τ' := by
  obtain ⟨x1, x2, x3, x4, x5, x6, x7, x8, x9, x10, x11, x12, x13, x14⟩ := h
  have hN := x1.1
  have hpk : ∀ w, w < nm → pkR c N τ' w = pkR c N τ w := fun w hw => by unfold pkR; rw [m2 w hw]
  refine ⟨x1.fr f1 f2, fun w hw => by rw [f1.2.1 8 w (by decide)]; exact x2 w hw, c3, m3, m4, m5, by omega, ha', by omega, fun k hk => ?_, fun w hw => ?_, fun w w' hw hw' e => ?_, fun k hk => ?_, fun k hk => ?_⟩
  · by_cases q : k = m
    · rw [q]; exact k1
    · have hL := x10 k (by omega)
      obtain ⟨s, e, μ, a1, a2, a3, a4, a5, a6, a7, a8, a10, a11, a9⟩ := hL
      refine ⟨s, e, μ, a1, a2, by rw [c1 13 k q (by omega)]; exact a3, by rw [c1 14 k q (by omega)]; exact a4, by rw [m1 127 k q (by decide) (by decide)]; exact a5, by rw [m1 128 k q (by decide) (by decide)]; exact a6, by rw [m1 126 k q (by decide) (by decide)]; exact a7, a8, a10, a11, ?_⟩
      unfold lexK at a9 ⊢
      rw [c1 10 k q (by omega), c1 11 k q (by omega), c2 12 k q, m1 129 k q (by decide) (by decide)]
      rcases a9 with ⟨b1, b2, b3, b4, w, b5, b6, b7⟩ | b | b | b
      · exact Or.inl ⟨b1, b2, b3, b4, w, by omega, b6, by rw [hpk w b5]; exact b7⟩
      · exact Or.inr (Or.inl b)
      · exact Or.inr (Or.inr (Or.inl b))
      · exact Or.inr (Or.inr (Or.inr b))
  · by_cases q : w < nm
    · rw [m2 w q]; exact x11 w q
    · exact (k2 w (by omega) hw).1
  · by_cases q : w < nm
    · by_cases q' : w' < nm
      · rw [hpk w q, hpk w' q'] at e
        exact x12 w w' q q' e
      · rw [hpk w q] at e
        exact absurd e ((k2 w' (by omega) hw').2 w q)
    · by_cases q' : w' < nm
      · rw [hpk w' q'] at e
        exact absurd e.symm ((k2 w (by omega) hw).2 w' q')
      · omega
  · by_cases q : k + 1 = m
    · rw [c1 14 k (by omega) (by omega), q, o1, i32_ti (by omega) (by omega)]
      exact x14 k q
    · rw [c1 14 k (by omega) (by omega), c1 13 (k + 1) (by omega) (by omega)]
      exact x13 k (by omega)
  · have q : k = m := by omega
    rw [q, o2, i32_ti (by omega) (by omega)]
    exact Int.le_refl _
theorem fr_cAdd {m : Nat} {κ s e : Int32} : frLC σ (cAdd σ m κ s e) := by
  refine ⟨fun k i q => ?_, fun _ _ _ => rfl, rfl⟩
  unfold cAdd
  simp only [rd_wr]
  rw [if_neg (by omega), if_neg (by omega), if_neg (by omega), if_neg (by omega)]
theorem fr_mAdd {m : Nat} {μ s n w : Int32} : frLM τ (mAdd τ m μ s n w) := by
  refine ⟨fun k i q => ?_, rfl⟩
  unfold mAdd
  simp only [rd_wr]
  rw [if_neg (by omega), if_neg (by omega), if_neg (by omega), if_neg (by omega), if_neg (by omega)]
theorem fr_w11 {m : Nat} {v : Int32} : frLC σ (wr σ 11 m v) := by
  refine ⟨fun k i q => ?_, fun _ _ _ => rfl, rfl⟩
  rw [rd_wr, if_neg (by omega)]
theorem fr_w12 {m : Nat} {v : Int64} : frLC σ (wl σ 12 m v) := by
  refine ⟨fun _ _ _ => rfl, fun k i q => ?_, rfl⟩
  rw [rl_wl, if_neg (by omega)]
theorem cAdd_ne {m : Nat} {κ s e : Int32} {j k : Nat} (hk : k ≠ m) (h6 : j = 6 → k ≠ 9) : rd (cAdd σ m κ s e) j k = rd σ j k := by
  unfold cAdd
  simp only [rd_wr]
  rw [if_neg (by omega), if_neg (by omega), if_neg (by omega), if_neg (by omega)]
theorem mAdd_ne {m : Nat} {μ s n w : Int32} {j k : Nat} (hk : k ≠ m) (h6 : j ≠ 123) : rd (mAdd τ m μ s n w) j k = rd τ j k := by
  unfold mAdd
  simp only [rd_wr]
  rw [if_neg (by omega), if_neg (by omega), if_neg (by omega), if_neg (by omega), if_neg (by omega)]
theorem cAdd_at {m : Nat} {κ s e : Int32} : rd (cAdd σ m κ s e) 10 m = κ ∧ rd (cAdd σ m κ s e) 13 m = s ∧ rd (cAdd σ m κ s e) 14 m = e ∧ rd (cAdd σ m κ s e) 11 m = rd σ 11 m ∧ rl (cAdd σ m κ s e) 12 m = rl σ 12 m ∧ rd (cAdd σ m κ s e) 6 9 = i32 (m + 1 : Nat) := by
  unfold cAdd
  simp [rd_wr, rl_wr]
theorem mAdd_at {m : Nat} {μ s n w : Int32} : rd (mAdd τ m μ s n w) 126 m = μ ∧ rd (mAdd τ m μ s n w) 127 m = s ∧ rd (mAdd τ m μ s n w) 128 m = n ∧ rd (mAdd τ m μ s n w) 129 m = w ∧ rd (mAdd τ m μ s n w) 123 8 = i32 (m + 1 : Nat) ∧ rd (mAdd τ m μ s n w) 123 15 = rd τ 123 15 ∧ rd (mAdd τ m μ s n w) 123 5 = rd τ 123 5 ∧ ∀ u, rd (mAdd τ m μ s n w) 131 u = rd τ 131 u := by
  unfold mAdd
  simp [rd_wr]
end LEX6
