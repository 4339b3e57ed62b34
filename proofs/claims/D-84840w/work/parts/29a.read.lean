/-! THE READER'S VIEW OF LEXEMES -/
def mu (τ : tvS) (k : Nat) : Nat := (rd τ 126 k).toInt.toNat
def ast (x : Nat) : Bool := inL [1, 2, 13, 14, 15, 24] x
def aen (x : Nat) : Bool := inL [1, 2, 13, 25] x
/-- how many parts a lexeme may lead to, besides an application -/
def uch (x : Nat) : Nat := cond (inL [1, 2, 5, 6, 9, 11, 13, 14, 15, 21, 22, 23, 26, 29, 30, 31, 32, 33, 34] x) 1 0
/-- how many parts the first lexemes may lead to -/
def wch (f : Nat → Nat) : Nat → Nat
  | 0 => 0
  | 1 => uch (f 0)
  | A + 2 => wch f (A + 1) + uch (f (A + 1)) + cond (ast (f (A + 1)) && aen (f A)) 1 0
def dlt (x : Nat) : Nat := if x = 2 then 2 else if x < 20 then 4 else if x = 25 then 0 else 3
/-- what the reader is told of lexemes: m of them, and the end -/
def LV (m : Nat) (σ τ : tvS) : Prop := m ≤ 3000 ∧ (∀ k, k ≤ m → rd τ 126 k = i32 (mu τ k) ∧ rd σ 13 k = rd τ 127 k ∧ mu τ k ≤ 36) ∧ mu τ m = 36 ∧
  (∀ k, k < m → (mu τ k = 1 ∧ rd σ 10 k = 1) ∨ (mu τ k = 2 ∧ rd σ 10 k = 2 ∧ rd σ 11 k = rd τ 129 k) ∨ (3 ≤ mu τ k ∧ mu τ k ≤ 15 ∧ rd σ 10 k = 4 ∧ rd σ 11 k = i32 (mu τ k - 3 : Nat)) ∨ (20 ≤ mu τ k ∧ mu τ k ≤ 35 ∧ rd σ 10 k = 3 ∧ rd σ 11 k = i32 (sgC (mu τ k)))) ∧
  (rd σ 10 m = 0) ∧
  (∀ k k', k < m → k' < m → mu τ k = 1 → mu τ k' = 1 → (rl σ 12 k = rl σ 12 k' ↔ rd τ 129 k = rd τ 129 k')) ∧
  (∀ A, A ≤ m → wch (mu τ) A ≤ 4001) ∧ (∀ k, k ≤ m → 0 ≤ (rd σ 13 k).toInt ∧ (rd σ 13 k).toInt ≤ 3000)
section LVS
variable {c : Nat → Nat} {N m nm : Nat} {σ τ : tvS}
theorem mu_of {k μ : Nat} (h : rd τ 126 k = i32 μ) (hm : μ < 100) : mu τ k = μ := by
  unfold mu
  rw [h, i32_ti (by omega) (by omega)]
  omega
theorem lexR_mu {k : Nat} (h : lexR c N nm σ τ k) : ∃ s e, s < e ∧ e ≤ N ∧ rd σ 13 k = i32 s ∧ rd σ 14 k = i32 e ∧ rd τ 127 k = i32 s ∧ rd τ 126 k = i32 (mu τ k) ∧ (mu τ k ≠ 2 → mu τ k < 20 → e = s + rnm c N s) ∧ (mu τ k = 2 → e = s + rdg c N s) ∧ lexK c N nm σ τ k s e (mu τ k) := by
  obtain ⟨s, e, μ, a1, a2, a3, a4, a5, a6, a7, a8, a10, a11, a9⟩ := h
  have hμ : μ < 100 := by unfold lexK at a9; omega
  have hm := mu_of a7 hμ
  refine ⟨s, e, a1, a2, a3, a4, a5, by rw [hm]; exact a7, by rw [hm]; exact a10, by rw [hm]; exact a11, by rw [hm]; exact a9⟩
theorem wch_ok (h : LXE c N m nm σ τ) : ∀ A, A < m → ∃ e : Nat, rd σ 14 A = i32 e ∧ e ≤ N ∧ 3 * wch (mu τ) (A + 1) ≤ 4 * e + dlt (mu τ A) := by
  obtain ⟨x1, x2, x3, x4, x5, x6, x7, x8, x9, x10, x11, x12, x13⟩ := h
  have hN := x1.1
  intro A
  induction A with
  | zero =>
    intro hA
    obtain ⟨s, e, a1, a2, a3, a4, a5, a6, a7, a8, a9⟩ := lexR_mu (x5 0 hA)
    refine ⟨e, a4, a2, ?_⟩
    show 3 * uch (mu τ 0) ≤ _
    have : uch (mu τ 0) ≤ 1 := by unfold uch; cases inL [1, 2, 5, 6, 9, 11, 13, 14, 15, 21, 22, 23, 26, 29, 30, 31, 32, 33, 34] (mu τ 0) <;> decide
    omega
  | succ A ih =>
    intro hA
    obtain ⟨e1, b1, b2, b3⟩ := ih (by omega)
    obtain ⟨s', e1', d1, d2, d3, d4, d5, d6, d7, d8, d9⟩ := lexR_mu (x5 A (by omega))
    obtain ⟨s, e, a1, a2, a3, a4, a5, a6, a7, a8, a9⟩ := lexR_mu (x5 (A + 1) hA)
    have he : e1 = e1' := by
      have := b1.symm.trans d4
      have := (i32_inj (by omega) (by omega) (by omega) (by omega)).mp this
      omega
    subst he
    have hord := x12 A (by omega)
    rw [d4, a3, i32_ti (by omega) (by omega), i32_ti (by omega) (by omega)] at hord
    refine ⟨e, a4, a2, ?_⟩
    show 3 * (wch (mu τ) (A + 1) + uch (mu τ (A + 1)) + cond (ast (mu τ (A + 1)) && aen (mu τ A)) 1 0) ≤ _
    have hk1 : (1 ≤ mu τ A ∧ mu τ A ≤ 15) ∨ (20 ≤ mu τ A ∧ mu τ A ≤ 35) := by unfold lexK at d9; omega
    have hk2 : (1 ≤ mu τ (A + 1) ∧ mu τ (A + 1) ≤ 15) ∨ (20 ≤ mu τ (A + 1) ∧ mu τ (A + 1) ≤ 35) := by unfold lexK at a9; omega
    have hu : uch (mu τ (A + 1)) ≤ 1 := by unfold uch; cases inL [1, 2, 5, 6, 9, 11, 13, 14, 15, 21, 22, 23, 26, 29, 30, 31, 32, 33, 34] (mu τ (A + 1)) <;> decide
    have hc : cond (ast (mu τ (A + 1)) && aen (mu τ A)) 1 0 ≤ 1 := by cases (ast (mu τ (A + 1)) && aen (mu τ A)) <;> decide
    -- a blank between what would else be one
    have hgap : mu τ A < 20 → mu τ (A + 1) < 20 → ¬ (mu τ A = 2 ∧ mu τ (A + 1) ≠ 2) → e1 < s := by
      intro q1 q2 q3
      apply Classical.byContradiction
      intro q4
      have hs : s = e1 := by omega
      have h2 : al c N s = true ∧ (mu τ (A + 1) = 2 → dg c N s = true) := by
        by_cases p : mu τ (A + 1) = 2
        · have := a8 p
          have hr : dg c N (s + 0) = true := run_at (show 0 < rdg c N s by omega)
          refine ⟨?_, fun _ => hr⟩
          unfold al aln
          unfold dg at hr
          rw [show s + 0 = s from rfl] at hr
          rw [hr, Bool.or_true]
        · have := a7 p q2
          exact ⟨run_at (p := al c N) (N := N) (s := s) (i := 0) (show 0 < rnm c N s by omega), fun q => absurd q p⟩
      by_cases p : mu τ A = 2
      · have := d8 p
        have hd : dg c N (s' + rdg c N s') = false := run_end (by omega) dg_N
        have h3 := h2.2 (Classical.byContradiction fun q => q3 ⟨p, q⟩)
        rw [← this, ← hs, h3] at hd
        cases hd
      · have := d7 p q1
        have hd : al c N (s' + rnm c N s') = false := run_end (by omega) al_N
        rw [← this, ← hs, h2.1] at hd
        cases hd
    have hsg : 20 ≤ mu τ (A + 1) → uch (mu τ (A + 1)) + cond (ast (mu τ (A + 1)) && aen (mu τ A)) 1 0 ≤ if mu τ (A + 1) = 25 then 0 else 1 := by
      intro q
      have : ∀ x y, 20 ≤ x → x ≤ 35 → y ≤ 35 → uch x + cond (ast x && aen y) 1 0 ≤ if x = 25 then 0 else 1 := by
        intro x y h1 h2 h3
        have hb : ((List.range 36).all fun x => (List.range 36).all fun y => Nat.blt x 20 || Nat.ble (uch x + cond (ast x && aen y) 1 0) (cond (Nat.beq x 25) 0 1)) = true := by decide +kernel
        have := List.all_eq_true.mp (List.all_eq_true.mp hb x (List.mem_range.mpr (by omega))) y (List.mem_range.mpr (by omega))
        rw [Bool.or_eq_true] at this
        rcases this with t | t
        · exact absurd (Nat.blt_eq.mp t) (by omega)
        · have t := Nat.le_of_ble_eq_true t
          by_cases e : x = 25
          · rw [if_pos e]; rw [e] at t ⊢; exact t
          · rw [if_neg e]
            rw [show Nat.beq x 25 = false from by cases q : Nat.beq x 25 with | false => rfl | true => exact absurd (Nat.eq_of_beq_eq_true q) e] at t
            exact t
      exact this _ _ q (by omega) (by omega)
    have hsn : 20 ≤ mu τ A → mu τ A ≠ 25 → cond (ast (mu τ (A + 1)) && aen (mu τ A)) 1 0 = 0 := by
      intro q1 q2
      have : ∀ y, 20 ≤ y → y ≤ 35 → y ≠ 25 → aen y = false := by
        intro y h1 h2 h3
        have hb : ((List.range 36).all fun y => Nat.blt y 20 || (Nat.beq y 25 || !(aen y))) = true := by decide +kernel
        have := List.all_eq_true.mp hb y (List.mem_range.mpr (by omega))
        rw [Bool.or_eq_true, Bool.or_eq_true] at this
        rcases this with t | t | t
        · exact absurd (Nat.blt_eq.mp t) (by omega)
        · exact absurd (Nat.eq_of_beq_eq_true t) h3
        · simpa using t
      rw [this _ q1 (by omega) q2, Bool.and_false]
      rfl
    generalize cond (ast (mu τ (A + 1)) && aen (mu τ A)) 1 0 = ap at *
    generalize uch (mu τ (A + 1)) = uu at *
    generalize wch (mu τ) (A + 1) = W at *
    unfold dlt at *
    generalize mu τ A = k1 at *
    generalize mu τ (A + 1) = k2 at *
    by_cases q2 : k2 < 20
    · by_cases q1 : k1 < 20
      · by_cases q3 : k1 = 2 ∧ k2 ≠ 2
        · rw [if_pos q3.1] at b3
          rw [if_neg q3.2, if_pos q2]
          omega
        · have := hgap q1 q2 q3
          have : (if k1 = 2 then 2 else if k1 < 20 then 4 else if k1 = 25 then 0 else 3) ≤ 4 := by split <;> (try split) <;> (try split) <;> omega
          have : 2 ≤ (if k2 = 2 then 2 else if k2 < 20 then 4 else if k2 = 25 then 0 else 3) := by rw [if_pos q2]; split <;> omega
          omega
      · have hx : 2 ≤ (if k2 = 2 then 2 else if k2 < 20 then 4 else if k2 = 25 then 0 else 3) := by rw [if_pos q2]; split <;> omega
        rw [if_neg (by omega), if_neg q1] at b3
        by_cases q4 : k1 = 25
        · rw [if_pos q4] at b3
          omega
        · rw [if_neg q4] at b3
          have := hsn (by omega) q4
          omega
    · have h4 := hsg (by omega)
      rw [if_neg (show ¬ k2 = 2 by omega), if_neg q2]
      have : (if k1 = 2 then 2 else if k1 < 20 then 4 else if k1 = 25 then 0 else 3) ≤ 4 := by split <;> (try split) <;> (try split) <;> omega
      by_cases q5 : k2 = 25
      · rw [if_pos q5] at h4 ⊢
        omega
      · rw [if_neg q5] at h4 ⊢
        omega
theorem LV_of (h : LXE c N m nm σ τ) : LV m σ τ := by
  have hh := h
  obtain ⟨x1, x2, x3, x4, x5, x6, x7, x8, x9, x10, x11, x12, x13⟩ := h
  have hN := x1.1
  have hm : mu τ m = 36 := mu_of (μ := 36) x9 (by decide)
  refine ⟨by omega, fun k hk => ?_, hm, fun k hk => ?_, x6, fun k k' hk hk' e1 e2 => ?_, fun A hA => ?_, fun k hk => ?_⟩
  · by_cases q : k = m
    · subst q
      rw [hm, x8, x10]
      exact ⟨x9, rfl, by omega⟩
    · obtain ⟨s, e, a1, a2, a3, a4, a5, a6, a7, a8, a9⟩ := lexR_mu (x5 k (by omega))
      refine ⟨a6, by rw [a3, a5], ?_⟩
      unfold lexK at a9
      omega
  · obtain ⟨s, e, a1, a2, a3, a4, a5, a6, a7, a8, a9⟩ := lexR_mu (x5 k hk)
    unfold lexK at a9
    rcases a9 with b | b | b | b
    · exact Or.inl ⟨b.1, b.2.1⟩
    · exact Or.inr (Or.inl b)
    · exact Or.inr (Or.inr (Or.inl b))
    · exact Or.inr (Or.inr (Or.inr b))
  · obtain ⟨s, e, a1, a2, a3, a4, a5, a6, a7, a8, a9⟩ := lexR_mu (x5 k hk)
    obtain ⟨s', e', b1, b2, b3, b4, b5, b6, b7, b8, b9⟩ := lexR_mu (x5 k' hk')
    unfold lexK at a9 b9
    rcases a9 with ⟨_, p1, p2, p3, w, p4, p5, p6⟩ | p | p | p
    · rcases b9 with ⟨_, r1, r2, r3, w', r4, r5, r6⟩ | r | r | r
      · rw [p2, r2, p5, r5, of64_inj p3 r3]
        constructor
        · intro e
          rw [x11 w w' p4 r4 (by rw [p6, r6, e])]
        · intro e
          have := (i32_inj (by omega) (by omega) (by omega) (by omega)).mp e
          rw [← p6, ← r6, show w = w' by omega]
      · omega
      · omega
      · omega
    · omega
    · omega
    · omega
  · cases A with
    | zero => exact Nat.zero_le _
    | succ A =>
      obtain ⟨e, b1, b2, b3⟩ := wch_ok hh A (by omega)
      have : dlt (mu τ A) ≤ 4 := by unfold dlt; split <;> (try split) <;> (try split) <;> omega
      omega
  · by_cases q : k = m
    · rw [q, x8, i32_ti (by omega) (by omega)]
      omega
    · obtain ⟨s, e, a1, a2, a3, a4, a5, a6, a7, a8, a9⟩ := lexR_mu (x5 k (by omega))
      rw [a3, i32_ti (by omega) (by omega)]
      omega
end LVS
