/-! BETWEEN FUNCTIONS: how many fns, how many puts -/
section COUNTS2
variable {D : pgD} {G : sgD} {m f : Nat}
theorem fnN_list : ∀ k, ∃ l : List Nat, l.Nodup ∧ l.length = fnN D f k ∧ ∀ p, p ∈ l → D.bP f ≤ p ∧ p < D.bP f + k ∧ D.K p = 17 := by
  intro k
  induction k with
  | zero => exact ⟨[], List.nodup_nil, rfl, fun p hp => (by cases hp)⟩
  | succ k ih =>
    obtain ⟨l, l1, l2, l3⟩ := ih
    show ∃ l : List Nat, l.Nodup ∧ l.length = fnN D f k + (if D.K (D.bP f + k) = 17 then 1 else 0) ∧ _
    by_cases c : D.K (D.bP f + k) = 17
    · rw [if_pos c]
      refine ⟨(D.bP f + k) :: l, List.nodup_cons.mpr ⟨fun h => ?_, l1⟩, by rw [List.length_cons, l2], fun p hp => ?_⟩
      · have := (l3 _ h).2.1; omega
      · rcases List.mem_cons.mp hp with e | e
        · rw [e]; exact ⟨by omega, by omega, c⟩
        · have := l3 p e; exact ⟨this.1, by omega, this.2.2⟩
    · rw [if_neg c]
      exact ⟨l, l1, l2, fun p hp => by have := l3 p hp; exact ⟨this.1, by omega, this.2.2⟩⟩
theorem fnN_le (hF : PGF D m) (hf : f ≤ D.fc) : fnN D f (D.bP (f + 1) - D.bP f) ≤ D.bF (f + 1) - D.bF f := by
  have hPf := hF.2.2 f hf
  have hlt := hPf.1.1
  obtain ⟨l, l1, l2, l3⟩ := fnN_list (D := D) (f := f) (D.bP (f + 1) - D.bP f)
  have inj : ∀ p q, p ∈ l → q ∈ l → D.vl p = D.vl q → p = q := fun p q hp hq e => by
    obtain ⟨p1, p2, p3⟩ := l3 p hp
    obtain ⟨q1, q2, q3⟩ := l3 q hq
    refine hPf.2.2.2.2.2.2 p q (D.gv (D.vl p)) p1 (by omega) q1 (by omega) ?_ ?_
    · unfold pgD.bd; rw [if_pos p3]; exact List.mem_cons_self
    · unfold pgD.bd; rw [if_pos q3, e]; exact List.mem_cons_self
  have hnd : (l.map D.vl).Nodup := by
    rw [List.Nodup, List.pairwise_map]
    exact List.Pairwise.imp_of_mem (fun {a b} ha hb hne e => hne (inj a b ha hb e)) l1
  have := nodup_len (l.map D.vl) ((List.range (D.bF (f + 1) - D.bF f)).map (fun i => D.bF f + i)) hnd (fun y hy => by
    obtain ⟨p, hp, e⟩ := List.mem_map.mp hy
    obtain ⟨p1, p2, p3⟩ := l3 p hp
    have := (hPf.2.2.1 p p1 (by omega)).2.2.2.2.2.2.1 p3
    exact List.mem_map.mpr ⟨y - D.bF f, List.mem_range.mpr (by omega), by omega⟩)
  rw [List.length_map, List.length_map, List.length_range, l2] at this
  exact this
theorem ocn_end : ∀ (j p : Nat), ocn D f p (j + 1) = ocn D f p j + (if D.K (p + j) = 3 ∧ D.vl (p + j) < f then 1 else 0) := by
  intro j
  induction j with
  | zero => intro p; show (if D.K p = 3 ∧ D.vl p < f then 1 else 0) + 0 = 0 + _; rw [Nat.add_zero, Nat.zero_add]; rfl
  | succ j ih =>
    intro p
    show (if D.K p = 3 ∧ D.vl p < f then 1 else 0) + ocn D f (p + 1) (j + 1) = (if D.K p = 3 ∧ D.vl p < f then 1 else 0) + ocn D f (p + 1) j + _
    rw [ih (p + 1), show p + 1 + j = p + (j + 1) by omega, Nat.add_assoc]
theorem puL_bound (hn : ∀ g, g < f → G.ng g ≤ 24) : ∀ k, (puL D G f k).length ≤ k + 24 * ocn D f (D.bP f) k := by
  intro k
  induction k with
  | zero => exact Nat.le_refl _
  | succ k ih =>
    rw [puL_len, ocn_end]
    have : D.np G f (D.bP f + k) ≤ 1 + 24 * (if D.K (D.bP f + k) = 3 ∧ D.vl (D.bP f + k) < f then 1 else 0) := by
      unfold pgD.np
      by_cases c : D.K (D.bP f + k) = 4 ∨ D.K (D.bP f + k) = 16 ∨ D.K (D.bP f + k) = 17
      · rw [if_pos c]; omega
      · rw [if_neg c]
        by_cases c2 : D.K (D.bP f + k) = 3 ∧ D.vl (D.bP f + k) < f
        · rw [if_pos c2, if_pos c2]
          have := hn _ c2.2; omega
        · rw [if_neg c2]; omega
    rw [Nat.mul_add]
    omega
/-- room, from function to function -/
theorem bud_step (hF : PGF D m) (hf : f ≤ D.fc) : ∃ P V Fn O bk : Nat, P = D.bP (f + 1) - D.bP f ∧ V = D.tV (f + 1) - D.tV f ∧ Fn = D.bF (f + 1) - D.bF f ∧ O = ocn D f (D.bP f) (D.bP (f + 1) - D.bP f) ∧ bk = D.bk f ∧ bk ≤ V ∧ nB D f = nB D (f + 1) + 5 * P + 64 * O ∧ uB D f = uB D (f + 1) + 2 * V + Fn + 2 ∧ aB D f = aB D (f + 1) + P + 9 * Fn + 3 ∧ rB D f = rB D (f + 1) + O + Fn ∧ toc D (f + 1) = toc D f + O ∧ D.bP (f + 1) = D.bP f + P ∧ D.bF (f + 1) = D.bF f + Fn ∧ D.tV (f + 1) = D.tV f + V := by
  have hp := (hF.2.2 f hf).1
  have u := hF.up (D.fc + 1 - (f + 1)) (f + 1) (by omega)
  rw [show f + 1 + (D.fc + 1 - (f + 1)) = D.fc + 1 by omega] at u
  have ht : toc D (f + 1) = toc D f + ocn D f (D.bP f) (D.bP (f + 1) - D.bP f) := rfl
  refine ⟨_, _, _, _, _, rfl, rfl, rfl, rfl, rfl, by omega, ?_, ?_, ?_, ?_, ht, by omega, by omega, by omega⟩
  · unfold nB; omega
  · unfold uB; omega
  · unfold aB; omega
  · unfold rB; omega
end COUNTS2
