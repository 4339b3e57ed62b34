/-! READING: whose kid a part is -/
section SPAN
variable {K1 K2 m : Nat} {μ : Nat → Nat} {g fc : Nat} {P S : Nat} {σ τ : tvS} {bk bP tV bF bS : Nat → Nat}
theorem contK.find : ∀ (l : List Nat) (s p : Nat), contK σ s l p → ∀ c, s ≤ c → c < p → ∃ w k s' : Nat, l[w]? = some k ∧ rd σ 26 k = i32 s' ∧ s' ≤ c ∧ c ≤ k ∧ k < p := by
  intro l
  induction l with
  | nil => intro s p h c h1 h2; have h : s = p := h; omega
  | cons k r ih =>
    intro s p h c h1 h2
    obtain ⟨a1, a2, a3, a4⟩ := h
    by_cases e : c ≤ k
    · exact ⟨0, k, s, rfl, a1, h1, e, a3⟩
    · obtain ⟨w, k', s', b1, b2, b3, b4, b5⟩ := ih (k + 1) p a4 c (by omega) h2
      exact ⟨w + 1, k', s', b1, b2, b3, b4, b5⟩
theorem contK.le : ∀ (l : List Nat) (s p : Nat), contK σ s l p → s ≤ p := by
  intro l s p h
  cases l with
  | nil => have h : s = p := h; omega
  | cons k r => obtain ⟨a1, a2, a3, a4⟩ := h; omega
theorem par_of (hpr : ∀ p, p < P → prtR m S σ τ p) (hP : P ≤ 4101) : ∀ (n p s c : Nat), p ≤ n → p < P → rd σ 26 p = i32 s → s < 5000 → s ≤ c → c < p → ∃ q, c < q ∧ q ≤ p ∧ rd σ 24 c = i32 q := by
  intro n
  induction n with
  | zero => intro p s c h1 h2 h3 h4 h5 h6; omega
  | succ n ih =>
    intro p s c h1 h2 h3 h4 h5 h6
    obtain ⟨κ, s0, kids, g1, g2, _, _, _, _, g7, _, g9, _, _, g12, _⟩ := hpr p h2
    have hs0 := contK.le _ _ _ g9
    have e : s0 = s := by
      have := (i32_inj (by omega) (by omega) (by omega) (by omega)).mp (g7.symm.trans h3)
      omega
    subst e
    obtain ⟨w, k, s', b1, b2, b3, b4, b5⟩ := contK.find _ _ _ g9 c h5 h6
    by_cases e : c = k
    · exact ⟨p, h6, Nat.le_refl _, by rw [e]; exact (g12 w k b1).1⟩
    · obtain ⟨q, q1, q2, q3⟩ := ih k s' c (by omega) (by omega) b2 (by omega) b3 (by omega)
      exact ⟨q, q1, by omega, q3⟩
theorem TAB.at (h0 : bP 0 = 0) : ∀ (n p : Nat), p < bP n → ∃ f, f < n ∧ bP f ≤ p ∧ p < bP (f + 1) := by
  intro n
  induction n with
  | zero => intro p hp; omega
  | succ n ih =>
    intro p hp
    by_cases e : bP n ≤ p
    · exact ⟨n, by omega, e, hp⟩
    · obtain ⟨f, f1, f2, f3⟩ := ih p (by omega)
      exact ⟨f, by omega, f2, f3⟩
theorem PRG0.par (h : PRG0 K1 K2 m μ fc bk bP tV bF bS σ τ) {p : Nat} (hp : p < bP (fc + 1)) : bP (fc + 1) ≤ 4101 ∧ (rd σ 24 p = i32 (-1) ∨ ∃ q, p < q ∧ q < bP (fc + 1) ∧ rd σ 24 p = i32 q) := by
  obtain ⟨hc, hT, ⟨t1, _⟩, _, _, _, _, _, hw, _⟩ := h
  obtain ⟨c1, c2, _⟩ := hc.lv
  have hw2 := c1.2.2.2.2.2.2.1 m (Nat.le_refl _)
  rw [c2] at hw2
  have hle := hT.le
  obtain ⟨f, f1, f2, f3⟩ := TAB.at t1 (fc + 1) p hp
  refine ⟨by omega, ?_⟩
  obtain ⟨_, _, _, ⟨e1, _⟩, ⟨e2, e3, _⟩, _⟩ := (hT f f1).2
  have hl := (hle (fc + 1 - (f + 1)) (f + 1) (by omega)).1
  by_cases e : p = bP (f + 1) - 1
  · rw [e]; exact Or.inl e3
  · obtain ⟨V', S', C, q, cp, _, _, _, _, _, _, _, _, _, _, hpr, _⟩ := hc
    obtain ⟨q, q1, q2, q3⟩ := par_of hpr (by omega) (bP (f + 1) - 1) (bP (f + 1) - 1) (bP f) p (Nat.le_refl _) (by omega) e2 (by omega) f2 (by omega)
    exact Or.inr ⟨q, q1, by omega, q3⟩
end SPAN
