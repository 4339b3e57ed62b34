/-! HOW MANY CALLS THERE MAY BE -/
section CALLCOUNT
variable {K1 K2 m : Nat} {μ : Nat → Nat} {fc : Nat} {σ τ : tvS} {bk bP tV bF bS : Nat → Nat} {P S : Nat} {D : pgD}
/-- a call's own lexemes -/
def tri (σ : tvS) (p : Nat) : List Nat := [ix (rd σ 17 p), ix (rd σ 17 p) + 1, ix (rd σ 18 p)]
theorem call_sp (hpr : ∀ p, p < P → prtR m S σ τ p) (hm : m ≤ 3000) (hP : P ≤ 4101) {p : Nat} (hp : p < P) (hk : rd σ 16 p = i32 3) : ix (rd σ 17 p) + 1 < ix (rd σ 18 p) ∧ ix (rd σ 18 p) < m ∧ ∃ s, (∀ q, s ≤ q → q < p → ix (rd σ 17 p) + 2 ≤ ix (rd σ 17 q) ∧ ix (rd σ 18 q) < ix (rd σ 18 p)) ∧ ∀ q, q < s → ix (rd σ 18 q) < ix (rd σ 17 p) := by
  obtain ⟨κ, s, kids, a1, a2, _, _, _, ⟨x, y, a6, a7, a8, a9, z1, _⟩, _⟩ := hpr p hp
  have e : κ = 3 := by
    have := (i32_inj (by omega) (by omega) (by omega) (by omega)).mp (a2.symm.trans hk)
    omega
  obtain ⟨b1, b2, b3⟩ := z1 e
  have e1 : ix (rd σ 17 p) = x := by rw [a6, i32_ixn (by omega)]
  have e2 : ix (rd σ 18 p) = y := by rw [a7, i32_ixn (by omega)]
  rw [e1, e2]
  exact ⟨b1, a9, s, b2, b3⟩
theorem call_dis (hpr : ∀ p, p < P → prtR m S σ τ p) (hm : m ≤ 3000) (hP : P ≤ 4101) {p q : Nat} (h : p < q) (hq : q < P) (h1 : rd σ 16 p = i32 3) (h2 : rd σ 16 q = i32 3) : ∀ x, x ∈ tri σ p → x ∉ tri σ q := by
  obtain ⟨a1, a2, s, a3, a4⟩ := call_sp hpr hm hP (show p < P by omega) h1
  obtain ⟨b1, b2, t, b3, b4⟩ := call_sp hpr hm hP hq h2
  intro x hx hy
  have hx : x = ix (rd σ 17 p) ∨ x = ix (rd σ 17 p) + 1 ∨ x = ix (rd σ 18 p) := by
    rcases List.mem_cons.mp hx with e | e
    · exact .inl e
    · rcases List.mem_cons.mp e with e | e
      · exact .inr (.inl e)
      · exact .inr (.inr (List.mem_singleton.mp e))
  have hy : x = ix (rd σ 17 q) ∨ x = ix (rd σ 17 q) + 1 ∨ x = ix (rd σ 18 q) := by
    rcases List.mem_cons.mp hy with e | e
    · exact .inl e
    · rcases List.mem_cons.mp e with e | e
      · exact .inr (.inl e)
      · exact .inr (.inr (List.mem_singleton.mp e))
  by_cases c : p < t
  · have := b4 p c; omega
  · have := b3 p (by omega) h; omega
theorem calls_nd (hpr : ∀ p, p < P → prtR m S σ τ p) (hm : m ≤ 3000) (hP : P ≤ 4101) : ∀ l : List Nat, l.Nodup → (∀ p, p ∈ l → p < P ∧ rd σ 16 p = i32 3) → (l.flatMap (tri σ)).Nodup ∧ (∀ x, x ∈ l.flatMap (tri σ) → x < m) ∧ (l.flatMap (tri σ)).length = 3 * l.length := by
  intro l
  induction l with
  | nil => intro _ _; exact ⟨List.nodup_nil, fun x hx => (by cases hx), rfl⟩
  | cons p r ih =>
    intro hd hl
    rw [List.nodup_cons] at hd
    obtain ⟨i1, i2, i3⟩ := ih hd.2 (fun q hq => hl q (List.mem_cons_of_mem _ hq))
    obtain ⟨hp, hk⟩ := hl p List.mem_cons_self
    obtain ⟨a1, a2, s, a3, a4⟩ := call_sp hpr hm hP hp hk
    rw [List.flatMap_cons]
    refine ⟨?_, fun x hx => ?_, ?_⟩
    · rw [List.nodup_append]
      refine ⟨?_, i1, fun x hx y hy e => ?_⟩
      · unfold tri
        simp only [List.nodup_cons, List.mem_cons, List.not_mem_nil, or_false, not_false_iff, List.nodup_nil, and_true]
        omega
      · subst e
        obtain ⟨q, q1, q2⟩ := List.mem_flatMap.mp hy
        obtain ⟨hq, hkq⟩ := hl q (List.mem_cons_of_mem _ q1)
        by_cases c : p < q
        · exact call_dis hpr hm hP c hq hk hkq x hx q2
        · have hne : p ≠ q := fun e => hd.1 (by rw [e]; exact q1)
          exact call_dis hpr hm hP (show q < p by omega) hp hkq hk x q2 hx
    · rcases List.mem_append.mp hx with h | h
      · unfold tri at h
        simp only [List.mem_cons, List.not_mem_nil, or_false] at h
        omega
      · exact i2 x h
    · rw [List.length_append, i3, List.length_cons]
      show 3 + 3 * r.length = _
      omega
theorem ocn_list {f : Nat} : ∀ (j p : Nat), ∃ l : List Nat, l.Nodup ∧ (∀ q, q ∈ l → p ≤ q ∧ q < p + j ∧ D.K q = 3) ∧ l.length = ocn D f p j := by
  intro j
  induction j with
  | zero => intro p; exact ⟨[], List.nodup_nil, fun q hq => (by cases hq), rfl⟩
  | succ j ih =>
    intro p
    obtain ⟨l, h1, h2, h3⟩ := ih (p + 1)
    have hoc : ocn D f p (j + 1) = (if D.K p = 3 ∧ D.vl p < f then 1 else 0) + ocn D f (p + 1) j := rfl
    by_cases c : D.K p = 3 ∧ D.vl p < f
    · rw [if_pos c] at hoc
      refine ⟨p :: l, List.nodup_cons.mpr ⟨fun hm => by have := (h2 p hm).1; omega, h1⟩, fun q hq => ?_, by rw [List.length_cons, h3, hoc]; omega⟩
      rcases List.mem_cons.mp hq with e | e
      · rw [e]; exact ⟨Nat.le_refl _, by omega, c.1⟩
      · have := h2 q e; exact ⟨by omega, by omega, this.2.2⟩
    · rw [if_neg c] at hoc
      exact ⟨l, h1, fun q hq => by have := h2 q hq; exact ⟨by omega, by omega, this.2.2⟩, by rw [h3, hoc]; omega⟩
/-- calls of older functions, in the first functions -/
def toc (D : pgD) : Nat → Nat
  | 0 => 0
  | f + 1 => toc D f + ocn D f (D.bP f) (D.bP (f + 1) - D.bP f)
theorem toc_list (hF : PGF D m) : ∀ f, f ≤ D.fc + 1 → ∃ l : List Nat, l.Nodup ∧ (∀ q, q ∈ l → q < D.bP f ∧ D.K q = 3) ∧ l.length = toc D f := by
  intro f
  induction f with
  | zero => intro _; exact ⟨[], List.nodup_nil, fun q hq => (by cases hq), rfl⟩
  | succ f ih =>
    intro hf
    obtain ⟨l, h1, h2, h3⟩ := ih (by omega)
    obtain ⟨l', g1, g2, g3⟩ := ocn_list (D := D) (f := f) (D.bP (f + 1) - D.bP f) (D.bP f)
    have hb := (hF.2.2 f (by omega)).1.1
    refine ⟨l ++ l', List.nodup_append.mpr ⟨h1, g1, fun x hx y hy e => ?_⟩, fun q hq => ?_, by rw [List.length_append, h3, g3]; rfl⟩
    · subst e
      have := (h2 x hx).1
      have := (g2 x hy).1
      omega
    · rcases List.mem_append.mp hq with k | k
      · have := h2 q k; exact ⟨by omega, this.2⟩
      · have := g2 q k; exact ⟨by omega, this.2.2⟩
theorem PRG0.calls (h : PRG0 K1 K2 m μ fc bk bP tV bF bS σ τ) (hF : PGF D m) (hR : PGR D σ τ) (hb : D.bP = bP) (hfc : D.fc = fc) : 3 * toc D (fc + 1) ≤ m := by
  obtain ⟨hc, _⟩ := h
  obtain ⟨V, S, C, q, cp, _, _, _, _, _, _, _, _, _, _, hpr, _⟩ := hc
  have hm := hF.1
  obtain ⟨l, l1, l2, l3⟩ := toc_list hF (fc + 1) (by omega)
  obtain ⟨a1, a2, a3⟩ := calls_nd hpr hm.2.1 (by rw [← hb, ← hfc]; omega) l l1 (fun p hp => by
    obtain ⟨b1, b2⟩ := l2 p hp
    have := (hR.2 p (by rw [hfc]; exact b1)).1.1
    rw [b2] at this
    exact ⟨by rw [← hb]; exact b1, this⟩)
  have := nodup_len _ (List.range m) a1 (fun x hx => List.mem_range.mpr (a2 x hx))
  rw [List.length_range] at this
  omega
end CALLCOUNT
