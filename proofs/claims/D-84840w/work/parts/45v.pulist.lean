/-! REGIONS: the puts of a function as one list, and their numbers on both sides -/
section PULIST
variable {D : pgD} {Gs : sgD} {f : Nat}
/-- what the first k parts put: parts, and which -/
def puL (D : pgD) (Gs : sgD) (f : Nat) : Nat → List (Nat × Nat)
  | 0 => []
  | k + 1 => puL D Gs f k ++ (List.range (D.np Gs f (D.bP f + k))).map (fun i => (D.bP f + k, i))
/-- calls of the function itself among the first k parts -/
def slN (D : pgD) (f : Nat) : Nat → Nat
  | 0 => 0
  | k + 1 => slN D f k + D.sf f (D.bP f + k)
def frO (D : pgD) (Gs : sgD) (f n0 p : Nat) : Nat := n0 + (puL D Gs f (p - D.bP f)).length
def svO (D : pgD) (f p : Nat) : Nat := slN D f (p - D.bP f)
theorem puL_len (k : Nat) : (puL D Gs f (k + 1)).length = (puL D Gs f k).length + D.np Gs f (D.bP f + k) := by
  show (puL D Gs f k ++ (List.range (D.np Gs f (D.bP f + k))).map (fun i => (D.bP f + k, i))).length = _
  rw [List.length_append, List.length_map, List.length_range]
theorem puL_le : ∀ (j k : Nat), (puL D Gs f k).length ≤ (puL D Gs f (k + j)).length := by
  intro j
  induction j with
  | zero => intro k; exact Nat.le_refl _
  | succ j ih =>
    intro k
    have := ih k
    have e : (puL D Gs f (k + (j + 1))).length = (puL D Gs f (k + j)).length + D.np Gs f (D.bP f + (k + j)) := puL_len (k + j)
    omega
/-- what is put by parts below stays where it is -/
theorem puL_pre : ∀ (j k i : Nat) (e : Nat × Nat), (puL D Gs f k)[i]? = some e → (puL D Gs f (k + j))[i]? = some e := by
  intro j
  induction j with
  | zero => intro k i e h; exact h
  | succ j ih =>
    intro k i e h
    have h1 := ih k i e h
    have hl : i < (puL D Gs f (k + j)).length := (List.getElem?_eq_some_iff.mp h1).1
    show (puL D Gs f (k + j) ++ _)[i]? = some e
    rw [List.getElem?_append_left hl]
    exact h1
theorem puL_at (k i : Nat) (hi : i < D.np Gs f (D.bP f + k)) : (puL D Gs f (k + 1))[(puL D Gs f k).length + i]? = some (D.bP f + k, i) := by
  show (puL D Gs f k ++ _)[(puL D Gs f k).length + i]? = _
  rw [List.getElem?_append_right (by omega), show (puL D Gs f k).length + i - (puL D Gs f k).length = i by omega, List.getElem?_map, List.getElem?_range hi]
  rfl
theorem puL_mem : ∀ (k : Nat) (e : Nat × Nat), e ∈ puL D Gs f k → D.bP f ≤ e.1 ∧ e.1 < D.bP f + k ∧ e.2 < D.np Gs f e.1 := by
  intro k
  induction k with
  | zero => intro e h; cases h
  | succ k ih =>
    intro e h
    rcases List.mem_append.mp h with h | h
    · have := ih e h; omega
    · obtain ⟨i, h1, h2⟩ := List.mem_map.mp h
      rw [← h2]
      exact ⟨by show D.bP f ≤ D.bP f + k; omega, by show D.bP f + k < D.bP f + (k + 1); omega, List.mem_range.mp h1⟩
theorem frO.puts {n0 n : Nat} {pe : Nat → Nat} {pn : Nat → Nat → Nat} (hb : D.bP f ≤ D.bP (f + 1)) (hpe : ∀ (i : Nat) (e : Nat × Nat), (puL D Gs f (D.bP (f + 1) - D.bP f))[i]? = some e → pe (n0 + i) = pn e.1 e.2) : PUTS D f n (frO D Gs f n0) pe (D.np Gs f) pn := by
  refine ⟨fun q q1 q2 => ?_, fun q i q1 q2 hi => ?_⟩
  · unfold frO
    rw [show q + 1 - D.bP f = (q - D.bP f) + 1 by omega, puL_len, show D.bP f + (q - D.bP f) = q by omega]
    omega
  · unfold frO
    have h := puL_at (D := D) (Gs := Gs) (f := f) (q - D.bP f) i (by rw [show D.bP f + (q - D.bP f) = q by omega]; exact hi)
    rw [show D.bP f + (q - D.bP f) = q by omega] at h
    have h2 := puL_pre (D.bP (f + 1) - (q + 1)) _ _ _ h
    rw [show q - D.bP f + 1 + (D.bP (f + 1) - (q + 1)) = D.bP (f + 1) - D.bP f by omega] at h2
    have := hpe _ _ h2
    rw [Nat.add_assoc]
    exact this
theorem frO.mono {n0 : Nat} : ∀ p q, D.bP f ≤ p → p ≤ q → frO D Gs f n0 p ≤ frO D Gs f n0 q := fun p q h1 h2 => by
  unfold frO
  have := puL_le (D := D) (Gs := Gs) (f := f) (q - p) (p - D.bP f)
  rw [show p - D.bP f + (q - p) = q - D.bP f by omega] at this
  omega
theorem slN_iff : ∀ (j k : Nat), slN D f (k + j) ≠ slN D f k ↔ ∃ q, D.bP f + k ≤ q ∧ q < D.bP f + k + j ∧ D.K q = 3 ∧ D.vl q = f := by
  intro j
  induction j with
  | zero => intro k; exact ⟨fun h => absurd rfl h, fun ⟨q, h1, h2, _⟩ => by omega⟩
  | succ j ih =>
    intro k
    have e : slN D f (k + (j + 1)) = slN D f (k + j) + D.sf f (D.bP f + (k + j)) := rfl
    have le : slN D f k ≤ slN D f (k + j) := by
      clear ih e
      induction j with
      | zero => exact Nat.le_refl _
      | succ j ih => exact Nat.le_trans ih (Nat.le_add_right _ _)
    have ih := ih k
    rw [e]
    by_cases c : D.K (D.bP f + (k + j)) = 3 ∧ D.vl (D.bP f + (k + j)) = f
    · have : D.sf f (D.bP f + (k + j)) = 1 := if_pos c
      exact ⟨fun _ => ⟨D.bP f + (k + j), by omega, by omega, c⟩, fun _ => by omega⟩
    · have e0 : D.sf f (D.bP f + (k + j)) = 0 := if_neg c
      rw [e0, Nat.add_zero, ih]
      constructor
      · rintro ⟨q, h1, h2, h3⟩; exact ⟨q, h1, by omega, h3⟩
      · rintro ⟨q, h1, h2, h3⟩
        refine ⟨q, h1, ?_, h3⟩
        apply Classical.byContradiction
        intro g
        rw [show q = D.bP f + (k + j) by omega] at h3
        exact c h3
theorem svO_iff {by' : Nat → Nat} {j : Nat} (h1 : D.bP f ≤ D.st (by' j)) (h2 : D.st (by' j) ≤ by' j) : svO D f (by' j + 1) ≠ svO D f (D.st (by' j)) ↔ sfM D f by' j := by
  have h := slN_iff (D := D) (f := f) (by' j + 1 - D.st (by' j)) (D.st (by' j) - D.bP f)
  unfold svO sfM spn
  rw [show D.st (by' j) - D.bP f + (by' j + 1 - D.st (by' j)) = by' j + 1 - D.bP f by omega] at h
  rw [h]
  constructor
  · rintro ⟨q, a, b, e⟩; exact ⟨q, ⟨by omega, by omega⟩, e⟩
  · rintro ⟨q, ⟨a, b⟩, e⟩; exact ⟨q, by omega, by omega, e⟩
/-- the component's numbers, over a list -/
def bxL (c : Nat → Nat) : List Nat → List Nat → List Nat
  | [], bl => bl
  | x :: l, bl => if 60 < bl.length then bl else bxL c l (bxA c bl x)
theorem bxF_L {c pe : Nat → Nat} : ∀ (l : List Nat) (i : Nat) (bl : List Nat), (∀ k x : Nat, l[k]? = some x → pe (i + k) = x) → bxF c pe l.length i bl = bxL c l bl := by
  intro l
  induction l with
  | nil => intro i bl _; rfl
  | cons x l ih =>
    intro i bl h
    show (if 60 < bl.length then bl else bxF c pe l.length (i + 1) (bxA c bl (pe i))) = (if 60 < bl.length then bl else bxL c l (bxA c bl x))
    have e : pe i = x := h 0 x rfl
    rw [e, ih (i + 1) _ (fun k y hy => by
      have := h (k + 1) y hy
      rw [show i + 1 + k = i + (k + 1) by omega]; exact this)]
/-- the model's -/
def nmL (r : Nat → Nat) (l R : List Nat) : List Nat := l.foldl (fun R y => numA R (r y)) R
theorem numA_len {R : List Nat} {x : Nat} : R.length ≤ (numA R x).length ∧ (numA R x).length ≤ R.length + 1 := by
  unfold numA
  by_cases c : x ∈ R
  · rw [if_pos c]; omega
  · rw [if_neg c, List.length_append]
    exact ⟨Nat.le_add_right _ _, Nat.le_refl _⟩
theorem nmL_len {r : Nat → Nat} : ∀ (l R : List Nat), R.length ≤ (nmL r l R).length ∧ (nmL r l R).length ≤ R.length + l.length := by
  intro l
  induction l with
  | nil => intro R; exact ⟨Nat.le_refl _, Nat.le_refl _⟩
  | cons x l ih =>
    intro R
    have h := ih (numA R (r x))
    have g := numA_len (R := R) (x := r x)
    show R.length ≤ (nmL r l (numA R (r x))).length ∧ (nmL r l (numA R (r x))).length ≤ R.length + (l.length + 1)
    omega
theorem nmL_mem {r : Nat → Nat} {x : Nat} : ∀ (l R : List Nat), x ∈ nmL r l R ↔ x ∈ R ∨ ∃ y, y ∈ l ∧ r y = x := by
  intro l
  induction l with
  | nil => intro R; exact ⟨.inl, fun h => h.elim id (fun ⟨y, h, _⟩ => by cases h)⟩
  | cons y l ih =>
    intro R
    show x ∈ nmL r l (numA R (r y)) ↔ _
    rw [ih]
    have g : x ∈ numA R (r y) ↔ x ∈ R ∨ x = r y := by
      unfold numA
      by_cases c : r y ∈ R
      · rw [if_pos c]; exact ⟨.inl, fun h => h.elim id (fun h => by rw [h]; exact c)⟩
      · rw [if_neg c, List.mem_append, List.mem_singleton]
    rw [g]
    constructor
    · rintro ((h | h) | ⟨z, h1, h2⟩)
      · exact .inl h
      · exact .inr ⟨y, List.mem_cons_self, h.symm⟩
      · exact .inr ⟨z, List.mem_cons_of_mem _ h1, h2⟩
    · rintro (h | ⟨z, h1, h2⟩)
      · exact .inl (.inl h)
      · rcases List.mem_cons.mp h1 with h | h
        · rw [h] at h2; exact .inl (.inr h2.symm)
        · exact .inr ⟨z, h, h2⟩
/-- numbered types of both, one by one -/
def NMz (Z : Nat → Nat → Prop) (bl R : List Nat) : Prop := bl.length = R.length ∧ ∀ k x y : Nat, bl[k]? = some x → R[k]? = some y → Z x y
theorem num_joint {C M : tG} {c r : Nat → Nat} {Z : Nat → Nat → Prop} (z : zG C c M r Z) (hr : ∀ x, r (r x) = r x) {α : Type} {a b : α → Nat} : ∀ (l : List α) (bl R : List Nat), (∀ e, e ∈ l → Z (a e) (b e)) → NMz Z bl R → (∀ y, y ∈ R → r y = y) →
    (60 < (bxL c (l.map a) bl).length ∧ 60 < (nmL r (l.map b) R).length) ∨ NMz Z (bxL c (l.map a) bl) (nmL r (l.map b) R) := by
  obtain ⟨z1, z2, z3, z4⟩ := z
  intro l
  induction l with
  | nil => intro bl R _ h _; exact .inr h
  | cons e l ih =>
    intro bl R hz h hR
    have e1 : bxL c ((e :: l).map a) bl = if 60 < bl.length then bl else bxL c (l.map a) (bxA c bl (a e)) := rfl
    have e2 : nmL r ((e :: l).map b) R = nmL r (l.map b) (numA R (r (b e))) := rfl
    have ze := hz e List.mem_cons_self
    rw [e1, e2]
    by_cases q : 60 < bl.length
    · rw [if_pos q]
      have g := nmL_len (r := r) (l.map b) (numA R (r (b e)))
      have g2 := numA_len (R := R) (x := r (b e))
      have := h.1
      exact .inl ⟨q, by omega⟩
    · rw [if_neg q]
      have mm : c (a e) ∈ bl.map c ↔ r (b e) ∈ R := by
        rw [List.mem_map]
        constructor
        · rintro ⟨x, h1, h2⟩
          obtain ⟨k, hk⟩ := List.getElem?_of_mem h1
          have hkl : k < bl.length := (List.getElem?_eq_some_iff.mp hk).1
          obtain ⟨y, hy⟩ : ∃ y, R[k]? = some y := ⟨R[k]'(by have := h.1; omega), List.getElem?_eq_getElem (by have := h.1; omega)⟩
          have zy := h.2 k x y hk hy
          have := (z1 _ _ _ _ zy ze).mp h2
          rw [hR y (List.mem_of_getElem? hy)] at this
          rw [← this]; exact List.mem_of_getElem? hy
        · intro h1
          obtain ⟨k, hk⟩ := List.getElem?_of_mem h1
          have hkl : k < R.length := (List.getElem?_eq_some_iff.mp hk).1
          obtain ⟨x, hx⟩ : ∃ x, bl[k]? = some x := ⟨bl[k]'(by have := h.1; omega), List.getElem?_eq_getElem (by have := h.1; omega)⟩
          have zy := h.2 k x _ hx hk
          exact ⟨x, List.mem_of_getElem? hx, (z1 _ _ _ _ zy ze).mpr (hr _)⟩
      refine ih _ _ (fun e' he => hz e' (List.mem_cons_of_mem _ he)) ?_ (fun y hy => ?_)
      · unfold bxA numA
        by_cases k : c (a e) ∈ bl.map c
        · rw [if_pos k, if_pos (mm.mp k)]; exact h
        · rw [if_neg k, if_neg (fun g => k (mm.mpr g))]
          refine ⟨by rw [List.length_append, List.length_append, h.1]; rfl, fun i x y hx hy => ?_⟩
          by_cases hi : i < bl.length
          · rw [List.getElem?_append_left hi] at hx
            rw [List.getElem?_append_left (by have := h.1; omega)] at hy
            exact h.2 i x y hx hy
          · rw [List.getElem?_append_right (by omega)] at hx
            rw [List.getElem?_append_right (by have := h.1; omega)] at hy
            have hx' := List.mem_singleton.mp (List.mem_of_getElem? hx)
            have hy' := List.mem_singleton.mp (List.mem_of_getElem? hy)
            rw [hx', hy']
            exact z2 _ _ _ _ ze rfl (hr _)
      · unfold numA at hy
        by_cases k : r (b e) ∈ R
        · rw [if_pos k] at hy; exact hR y hy
        · rw [if_neg k] at hy
          rcases List.mem_append.mp hy with g | g
          · exact hR y g
          · rw [List.mem_singleton.mp g]; exact hr _
end PULIST
