/-! LEXEMES: numbers of names, signs -/
section LEX4
variable {L : Nat} {xs : Nat → Int32} {c : Nat → Nat} {N : Nat} {σ τ : tvS}
def eqN (c : Nat → Nat) (N t s k : Nat) : Bool := (List.range k).all fun i => Nat.beq (hh c N (t + i)) (c (s + i))
theorem eqN_succ (t s k : Nat) : eqN c N t s (k + 1) = (eqN c N t s k && Nat.beq (hh c N (t + k)) (c (s + k))) := by
  unfold eqN
  rw [List.range_succ, List.all_append]
  simp
theorem eqN_iff {t s k : Nat} : eqN c N t s k = true ↔ ∀ i, i < k → hh c N (t + i) = c (s + i) := by
  unfold eqN
  rw [List.all_eq_true]
  exact ⟨fun h i hi => Nat.eq_of_beq_eq_true (h i (List.mem_range.mpr hi)), fun h i hi => by rw [h i (List.mem_range.mp hi)]; exact Nat.beq_refl _⟩
theorem name_inner (h : TX c N σ τ) (d s n w t : Nat) (hs : s + n ≤ N) (hw : w < 3002) (ht : t ≤ N) (hwt : rd τ 131 w = i32 t) : ∀ (k i : Nat), i + k = n → ∃ m, rn L xs (d + 2) 295 16 [.ref 123, .int (i32 s), .int (i32 n), .int (i32 w), .int (bN (eqN c N t s i)), .int (i32 i)] [] τ = rn L xs (d + 2) 295 65 [.ref 123, .int (i32 s), .int (i32 n), .int (i32 w), .int (bN (eqN c N t s n)), .int m] [] τ := by
  have hN := h.1
  intro k
  induction k with
  | zero =>
    intro i hi
    have hi : i = n := hi
    rw [e295_16 (d + 1), c2_ge (by omega) (by omega) (by omega) (by omega), c_t (by omega), hi]
    exact ⟨_, rfl⟩
  | succ k ih =>
    intro i hi
    rw [e295_16 (d + 1), c2_ge (by omega) (by omega) (by omega) (by omega), c_f (by omega), c1_eq_bN]
    cases e : eqN c N t s i with
    | false =>
      have e2 : eqN c N t s n = false := by
        cases e3 : eqN c N t s n with
        | false => rfl
        | true => rw [eqN_iff.mpr (fun q hq => eqN_iff.mp e3 q (by omega))] at e; cases e
      rw [cond_false, e2]
      exact ⟨_, rfl⟩
    | true =>
      have hx := h.2.2.2 (s + i) (by omega)
      have hb := hh_le h (t + i)
      rw [cond_true, c_in (by omega) (by omega) (by omega), i32_ixn (by omega), hwt, i32_nn, i32_nn, bI_ok (sign_ok h d (t + i) (by omega)), c_in (by omega) (by omega) (by omega), i32_ixn (by omega), hx.2.2.2, c2_ne (by omega) (by omega) (by omega) (by omega)]
      have ihx := ih (i + 1) (by omega)
      rw [eqN_succ, e, Bool.true_and] at ihx
      by_cases q : hh c N (t + i) = c (s + i)
      · rw [c_f (by omega), e295_57 (d + 1), i32_n1]
        rw [show Nat.beq (hh c N (t + i)) (c (s + i)) = true from by rw [q]; exact Nat.beq_refl _] at ihx
        exact ihx
      · rw [c_t (by omega), e295_56 (d + 1), e295_57 (d + 1), i32_n1]
        rw [show Nat.beq (hh c N (t + i)) (c (s + i)) = false from by cases q2 : Nat.beq (hh c N (t + i)) (c (s + i)) with | false => rfl | true => exact absurd (Nat.eq_of_beq_eq_true q2) q] at ihx
        exact ihx
/-- the packed name that a number stands for -/
def pkR (c : Nat → Nat) (N : Nat) (τ : tvS) (w : Nat) : Nat := pkc c (ix (rd τ 131 w)) (rnm c N (ix (rd τ 131 w)))
theorem al_of_eq {i j : Nat} (h : hh c N i = hh c N j) : al c N i = al c N j := by unfold al; rw [h]
theorem name_eq (h : TX c N σ τ) {s t : Nat} (hs : s ≤ N) (ht : t ≤ N) : (eqN c N t s (rnm c N s) && !(al c N (t + rnm c N s))) = decide (pkc c t (rnm c N t) = pkc c s (rnm c N s)) := by
  have hls : s + rnm c N s ≤ N := run_le hs
  have hlt : t + rnm c N t ≤ N := run_le ht
  have hinj := pkc_inj (c := c) (c' := c) (s := t) (s' := s) (rnm c N t) (rnm c N s) (fun i hi => by have := h.2.2.2 (t + i) (by omega); omega) (fun i hi => by have := h.2.2.2 (s + i) (by omega); omega)
  have hAl : ∀ i, i < rnm c N s → al c N (s + i) = true := fun i hi => run_at hi
  have hAt : ∀ i, i < rnm c N t → al c N (t + i) = true := fun i hi => run_at hi
  have hEt : al c N (t + rnm c N t) = false := run_end ht al_N
  by_cases q : pkc c t (rnm c N t) = pkc c s (rnm c N s)
  · rw [decide_eq_true q]
    obtain ⟨a1, a2⟩ := hinj.mp q
    rw [Bool.and_eq_true]
    refine ⟨eqN_iff.mpr (fun i hi => ?_), by rw [← a1, hEt]; rfl⟩
    rw [(al_c (hAt i (by omega))).2.1]
    exact a2 i (by omega)
  · rw [decide_eq_false q]
    cases e1 : eqN c N t s (rnm c N s) with
    | false => rfl
    | true =>
      cases e2 : al c N (t + rnm c N s) with
      | true => rfl
      | false =>
        exfalso
        apply q
        have e1 := eqN_iff.mp e1
        have hrun : rnm c N t = rnm c N s := run_eq (fun i hi => by
          have a := (al_c (hAl i hi))
          rw [al_of_eq (j := s + i) (by rw [e1 i hi, a.2.1])]
          exact hAl i hi) e2 ht al_N
        refine hinj.mpr ⟨hrun, fun i hi => ?_⟩
        have := e1 i (by omega)
        rw [(al_c (hAt i hi)).2.1] at this
        exact this
theorem name_test (h : TX c N σ τ) (d s w t : Nat) (hs : s ≤ N) (hw : w < 3002) (ht : t ≤ N) (hwt : rd τ 131 w = i32 t) : ∃ v4 v5, rn L xs (d + 3) 295 16 [.ref 123, .int (i32 s), .int (i32 (rnm c N s)), .int (i32 w), .int 1, .int 0] [] τ =
    cond (decide (pkR c N τ w = pkc c s (rnm c N s))) (some (.inl (some (.int (i32 w))), τ)) (rn L xs (d + 3) 295 102 [.ref 123, .int (i32 s), .int (i32 (rnm c N s)), .int (i32 w), v4, v5] [] τ) := by
  have hN := h.1
  have hls : s + rnm c N s ≤ N := run_le hs
  obtain ⟨m, e⟩ := name_inner (L := L) (xs := xs) h (d + 1) s (rnm c N s) w t hls hw ht hwt (rnm c N s) 0 (by omega)
  have hpr : pkR c N τ w = pkc c t (rnm c N t) := by unfold pkR; rw [hwt, i32_ixn (by omega)]
  rw [hpr, ← name_eq h hs ht]
  have e : rn L xs (d + 3) 295 16 [.ref 123, .int (i32 s), .int (i32 (rnm c N s)), .int (i32 w), .int 1, .int 0] [] τ = _ := e
  rw [e, e295_65 (d + 2), c_in (by omega) (by omega) (by omega), i32_ixn (by omega), hwt, i32_nn, bI_ok (sign_ok h (d + 1) (t + rnm c N s) (by omega)), c1_eq_bN]
  cases e1 : eqN c N t s (rnm c N s) with
  | false => exact ⟨_, _, rfl⟩
  | true =>
    rw [cond_true, Bool.true_and, bI_ok (isSmall_ok (hh_le h _) d τ), c1_ne_bN]
    unfold al aln
    cases ltr (hh c N (t + rnm c N s)) with
    | true => exact ⟨_, _, rfl⟩
    | false =>
      rw [cond_false, bI_ok (isDig_ok (hh_le h _) d τ), c1_ne_bN]
      cases dgt (hh c N (t + rnm c N s)) with
      | true => exact ⟨_, _, rfl⟩
      | false => exact ⟨jv, jv, rfl⟩
def nIx (c : Nat → Nat) (N : Nat) (τ : tvS) (P : Nat) : Nat → Nat → Nat
  | 0, w => w
  | k + 1, w => if pkR c N τ w = P then w else nIx c N τ P k (w + 1)
theorem name_loop (h : TX c N σ τ) (d s nm : Nat) (hs : s ≤ N) (hnm : rd τ 123 15 = i32 nm) (hn2 : nm ≤ 3001) (hT : ∀ w, w < nm → ∃ t, t ≤ N ∧ rd τ 131 w = i32 t) : ∀ (k w : Nat) (v4 v5 : Value), w + k = nm → ∃ v v',
    rn L xs (d + 3) 295 2 [.ref 123, .int (i32 s), .int (i32 (rnm c N s)), .int (i32 w), v4, v5] [] τ =
    if nIx c N τ (pkc c s (rnm c N s)) k w < nm then some (.inl (some (.int (i32 (nIx c N τ (pkc c s (rnm c N s)) k w)))), τ) else rn L xs (d + 3) 295 108 [.ref 123, .int (i32 s), .int (i32 (rnm c N s)), .int (i32 nm), v, v'] [] τ := by
  have hN := h.1
  intro k
  induction k with
  | zero =>
    intro w v4 v5 hw
    have hw : w = nm := hw
    rw [e295_2 (d + 2), hnm, c2_ge (by omega) (by omega) (by omega) (by omega), c_t (by omega), hw]
    refine ⟨v4, v5, ?_⟩
    show _ = if nm < nm then _ else _
    rw [if_neg (by omega)]
  | succ k ih =>
    intro w v4 v5 hw
    obtain ⟨t, ht, hwt⟩ := hT w (by omega)
    rw [e295_2 (d + 2), hnm, c2_ge (by omega) (by omega) (by omega) (by omega), c_f (by omega)]
    obtain ⟨u4, u5, e⟩ := name_test (L := L) (xs := xs) h d s w t hs (by omega) ht hwt
    rw [e]
    by_cases q : pkR c N τ w = pkc c s (rnm c N s)
    · have : nIx c N τ (pkc c s (rnm c N s)) (k + 1) w = w := if_pos q
      rw [decide_eq_true q, this]
      exact ⟨jv, jv, by rw [if_pos (by omega)]; rfl⟩
    · have : nIx c N τ (pkc c s (rnm c N s)) (k + 1) w = nIx c N τ (pkc c s (rnm c N s)) k (w + 1) := if_neg q
      rw [decide_eq_false q, this, cond_false, e295_102 (d + 2), i32_n1]
      exact ih (w + 1) u4 u5 (by omega)
theorem nameOf_ok (h : TX c N σ τ) (d s nm : Nat) (hs : s ≤ N) (hnm : rd τ 123 15 = i32 nm) (hn2 : nm ≤ 3001) (hT : ∀ w, w < nm → ∃ t, t ≤ N ∧ rd τ 131 w = i32 t) :
    rn L xs (d + 3) 295 0 [.ref 123, .int (i32 s), .int (i32 (rnm c N s)), jv, jv, jv] [] τ = if nIx c N τ (pkc c s (rnm c N s)) nm 0 < nm then some (.inl (some (.int (i32 (nIx c N τ (pkc c s (rnm c N s)) nm 0)))), τ) else some (.inl (some (.int (i32 nm))), wr (wr τ 131 nm (i32 s)) 123 15 (i32 (nm + 1 : Nat))) := by
  obtain ⟨v, v', e⟩ := name_loop (L := L) (xs := xs) h d s nm hs hnm hn2 hT nm 0 jv jv (by omega)
  rw [e295_0 (d + 2)]
  refine Eq.trans e ?_
  by_cases q : nIx c N τ (pkc c s (rnm c N s)) nm 0 < nm
  · rw [if_pos q, if_pos q]
  · rw [if_neg q, if_neg q, e295_108 (d + 2), hnm, c_in (by omega) (by omega) (by omega), i32_ixn (by omega), i32_n1, show (1 : Int32) = i32 1 from rfl, i32_sub, show (((nm + 1 : Nat) : Int) - 1) = (nm : Int) by omega]
theorem nIx_le (P : Nat) : ∀ k w, w ≤ nIx c N τ P k w ∧ nIx c N τ P k w ≤ w + k := by
  intro k
  induction k with
  | zero => intro w; exact ⟨Nat.le_refl _, Nat.le_refl _⟩
  | succ k ih =>
    intro w
    show w ≤ (if pkR c N τ w = P then w else nIx c N τ P k (w + 1)) ∧ (if pkR c N τ w = P then w else nIx c N τ P k (w + 1)) ≤ _
    split
    · omega
    · have := ih (w + 1); omega
theorem nIx_hit (P : Nat) : ∀ k w, nIx c N τ P k w < w + k → pkR c N τ (nIx c N τ P k w) = P := by
  intro k
  induction k with
  | zero => intro w h; exact absurd h (Nat.lt_irrefl _)
  | succ k ih =>
    intro w h
    have hd : nIx c N τ P (k + 1) w = if pkR c N τ w = P then w else nIx c N τ P k (w + 1) := rfl
    rw [hd] at h ⊢
    by_cases q : pkR c N τ w = P
    · rw [if_pos q]; exact q
    · rw [if_neg q] at h ⊢
      exact ih (w + 1) (by omega)
theorem nIx_miss (P : Nat) : ∀ k w, ¬ nIx c N τ P k w < w + k → ∀ u, w ≤ u → u < w + k → pkR c N τ u ≠ P := by
  intro k
  induction k with
  | zero => intro w h u h1 h2; omega
  | succ k ih =>
    intro w h u h1 h2
    have hd : nIx c N τ P (k + 1) w = if pkR c N τ w = P then w else nIx c N τ P k (w + 1) := rfl
    rw [hd] at h
    by_cases q : pkR c N τ w = P
    · rw [if_pos q] at h; omega
    · rw [if_neg q] at h
      by_cases e : u = w
      · rw [e]; exact q
      · exact ih (w + 1) (by omega) u (by omega) (by omega)
/-! signs -/
def sg2 (a b : Nat) : Nat := if a = 61 ∧ b = 62 then 256 else if a = 61 ∧ b = 61 then 257 else if a = 60 ∧ b = 61 then 258 else if a = 58 ∧ b = 58 then 259 else 0
def sg1 (a : Nat) : Bool := decide (a = 40) || (decide (a = 41) || (decide (a = 44) || (decide (a = 59) || (decide (a = 61) || (decide (a = 60) || (decide (a = 43) || (decide (a = 45) || (decide (a = 42) || (decide (a = 47) || (decide (a = 37) || decide (a = 124)))))))))))
theorem cnd_or {α : Type} {p q : Bool} {a b : α} : cond p a (cond q a b) = cond (p || q) a b := by cases p <;> cases q <;> rfl
theorem csign_two (h : TX c N σ τ) (d s : Nat) (hs : s < 2147483647) : ∃ w3 w4 w5 w6, rn L xs (d + 2) 55 0 [.ref 6, .int (i32 s), jv, jv, jv, jv, jv] [] σ = rn L xs (d + 2) 55 87 [.ref 6, .int (i32 s), .int (by8 (i32 (hh c N s))), w3, w4, w5, w6] [.int (i32 (sg2 (hh c N s) (hh c N (s + 1))))] σ := by
  have ha := hh_le h s
  have hb := hh_le h (s + 1)
  rw [e55_0 (d + 1), bI_ok (here_ok h d s (by omega)), i32_n1, bI_ok (here_ok h d (s + 1) (by omega))]
  generalize hh c N s = a at *
  generalize hh c N (s + 1) = b at *
  rw [b8_ne ha 61 (by decide), b8_ne hb 62 (by decide), cnd_not, cnd_not]
  unfold sg2
  by_cases q1 : a = 61 ∧ b = 62
  · rw [decide_eq_true q1.1, decide_eq_true q1.2, if_pos q1]
    exact ⟨_, _, _, _, rfl⟩
  · rw [if_neg q1]
    have e1 : ∀ {x y : tvR}, cond (decide (a = 61)) (cond (decide (b = 62)) x y) y = y := by
      intro x y
      by_cases p1 : a = 61
      · rw [decide_eq_true p1, cond_true, decide_eq_false (fun p => q1 ⟨p1, p⟩), cond_false]
      · rw [decide_eq_false p1, cond_false]
    rw [e1, e55_32 (d + 1), b8_ne ha 61 (by decide), b8_ne hb 61 (by decide), cnd_not, cnd_not]
    by_cases q2 : a = 61 ∧ b = 61
    · rw [decide_eq_true q2.1, decide_eq_true q2.2, if_pos q2]
      exact ⟨_, _, _, _, rfl⟩
    · rw [if_neg q2]
      have e2 : ∀ {x y : tvR}, cond (decide (a = 61)) (cond (decide (b = 61)) x y) y = y := by
        intro x y
        by_cases p1 : a = 61
        · rw [decide_eq_true p1, cond_true, decide_eq_false (fun p => q2 ⟨p1, p⟩), cond_false]
        · rw [decide_eq_false p1, cond_false]
      rw [e2, e55_50 (d + 1), b8_ne ha 60 (by decide), b8_ne hb 61 (by decide), cnd_not, cnd_not]
      by_cases q3 : a = 60 ∧ b = 61
      · rw [decide_eq_true q3.1, decide_eq_true q3.2, if_pos q3]
        exact ⟨_, _, _, _, rfl⟩
      · rw [if_neg q3]
        have e3 : ∀ {x y : tvR}, cond (decide (a = 60)) (cond (decide (b = 61)) x y) y = y := by
          intro x y
          by_cases p1 : a = 60
          · rw [decide_eq_true p1, cond_true, decide_eq_false (fun p => q3 ⟨p1, p⟩), cond_false]
          · rw [decide_eq_false p1, cond_false]
        rw [e3, e55_68 (d + 1), b8_ne ha 58 (by decide), b8_ne hb 58 (by decide), cnd_not, cnd_not]
        by_cases q4 : a = 58 ∧ b = 58
        · rw [decide_eq_true q4.1, decide_eq_true q4.2, if_pos q4]
          exact ⟨_, _, _, _, rfl⟩
        · rw [if_neg q4]
          have e4 : ∀ {x y : tvR}, cond (decide (a = 58)) (cond (decide (b = 58)) x y) y = y := by
            intro x y
            by_cases p1 : a = 58
            · rw [decide_eq_true p1, cond_true, decide_eq_false (fun p => q4 ⟨p1, p⟩), cond_false]
            · rw [decide_eq_false p1, cond_false]
          rw [e4, e55_86 (d + 1)]
          exact ⟨_, _, _, _, rfl⟩
theorem csign_one {a : Nat} (ha : a ≤ 255) (d s two : Nat) (σ : tvS) (v3 v4 v5 v6 : Value) : ∃ w3, rn L xs (d + 1) 55 87 [.ref 6, .int (i32 s), .int (by8 (i32 a)), v3, v4, v5, v6] [.int (i32 two)] σ = rn L xs (d + 1) 55 166 [.ref 6, .int (i32 s), .int (by8 (i32 a)), w3, .int (i32 two), v5, v6] [.int (bN (sg1 a))] σ := by
  rw [e55_87]
  rw [b8_eq ha 40 (by decide), b8_eq ha 41 (by decide), b8_eq ha 44 (by decide), b8_eq ha 59 (by decide), b8_eq ha 61 (by decide), b8_eq ha 60 (by decide), b8_eq ha 43 (by decide), b8_eq ha 45 (by decide), b8_eq ha 42 (by decide), b8_eq ha 47 (by decide), b8_eq ha 37 (by decide), b8_ne ha 124 (by decide), cnd_not]
  simp only [e55_161, e55_165]
  refine ⟨jk v3, ?_⟩
  unfold sg1
  by_cases h : a = 124
  · rw [decide_eq_true h]
    simp only [cnd_or, Bool.or_true, cond_true, Bool.or_assoc]
    generalize (decide (a = 40) || (decide (a = 41) || (decide (a = 44) || (decide (a = 59) || (decide (a = 61) || (decide (a = 60) || (decide (a = 43) || (decide (a = 45) || (decide (a = 42) || (decide (a = 47) || decide (a = 37))))))))))) = p
    cases p <;> rfl
  · rw [decide_eq_false h]
    simp only [cnd_or, Bool.or_false, cond_false, Bool.or_assoc]
    generalize (decide (a = 40) || (decide (a = 41) || (decide (a = 44) || (decide (a = 59) || (decide (a = 61) || (decide (a = 60) || (decide (a = 43) || (decide (a = 45) || (decide (a = 42) || (decide (a = 47) || decide (a = 37))))))))))) = p
    cases p <;> rfl
end LEX4
