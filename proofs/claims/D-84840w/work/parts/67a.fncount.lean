/-! WHAT IS TOLD of a function: how many fns it has -/
/-- fns among parts -/
def fnC (D : pgD) (p : Nat) : Nat → Nat
  | 0 => 0
  | j + 1 => fnC D p j + (if D.K (p + j) = 17 then 1 else 0)
/-- their parts -/
def fnL (D : pgD) (p : Nat) : Nat → List Nat
  | 0 => []
  | j + 1 => if D.K (p + j) = 17 then (p + j) :: fnL D p j else fnL D p j
section FNCOUNT
variable {L : Nat} {xs : Nat → Int32} {τ : tvS} {D : pgD} {m f : Nat}
theorem fnL_len (p : Nat) : ∀ j, (fnL D p j).length = fnC D p j := by
  intro j
  induction j with
  | zero => rfl
  | succ j ih =>
    show (if D.K (p + j) = 17 then (p + j) :: fnL D p j else fnL D p j).length = fnC D p j + (if D.K (p + j) = 17 then 1 else 0)
    by_cases c : D.K (p + j) = 17
    · rw [if_pos c, if_pos c, List.length_cons, ih]
    · rw [if_neg c, if_neg c, ih]; rfl
theorem fnL_mem {p q : Nat} : ∀ j, q ∈ fnL D p j ↔ p ≤ q ∧ q < p + j ∧ D.K q = 17 := by
  intro j
  induction j with
  | zero => exact ⟨fun h => (List.not_mem_nil h).elim, fun h => by omega⟩
  | succ j ih =>
    show q ∈ (if D.K (p + j) = 17 then (p + j) :: fnL D p j else fnL D p j) ↔ _
    by_cases c : D.K (p + j) = 17
    · rw [if_pos c, List.mem_cons, ih]
      constructor
      · rintro (h | h)
        · subst h; exact ⟨by omega, by omega, c⟩
        · exact ⟨h.1, by omega, h.2.2⟩
      · intro h
        by_cases e : q = p + j
        · exact .inl e
        · exact .inr ⟨h.1, by omega, h.2.2⟩
    · rw [if_neg c, ih]
      constructor
      · intro h; exact ⟨h.1, by omega, h.2.2⟩
      · intro h
        refine ⟨h.1, ?_, h.2.2⟩
        have : q ≠ p + j := fun e => c (by rw [← e]; exact h.2.2)
        omega
theorem fnL_nd (p : Nat) : ∀ j, (fnL D p j).Nodup := by
  intro j
  induction j with
  | zero => exact List.nodup_nil
  | succ j ih =>
    show (if D.K (p + j) = 17 then (p + j) :: fnL D p j else fnL D p j).Nodup
    by_cases c : D.K (p + j) = 17
    · rw [if_pos c]
      exact List.nodup_cons.mpr ⟨fun h => by have := ((fnL_mem j).mp h).2.1; omega, ih⟩
    · rw [if_neg c]; exact ih
theorem map_nd {g : Nat → Nat} : ∀ l : List Nat, l.Nodup → (∀ x y, x ∈ l → y ∈ l → g x = g y → x = y) → (l.map g).Nodup := by
  intro l
  induction l with
  | nil => intro _ _; exact List.nodup_nil
  | cons x l ih =>
    intro hn hi
    obtain ⟨n1, n2⟩ := List.nodup_cons.mp hn
    rw [List.map_cons]
    refine List.nodup_cons.mpr ⟨fun h => ?_, ih n2 (fun a b ha hb => hi a b (List.mem_cons_of_mem _ ha) (List.mem_cons_of_mem _ hb))⟩
    obtain ⟨y, hy, e⟩ := List.mem_map.mp h
    have := hi y x (List.mem_cons_of_mem _ hy) List.mem_cons_self e
    subst this
    exact n1 hy
/-- so many -/
theorem fnC_all (hF : PGF D m) (hf : f ≤ D.fc) : D.bF f + fnC D (D.bP f) (D.bP (f + 1) - D.bP f) = D.bF (f + 1) := by
  have hPf := hF.2.2 f hf
  have hlt := hPf.1.1
  have hbF := hPf.1.2.2.1
  obtain ⟨l, hl⟩ : ∃ l, l = fnL D (D.bP f) (D.bP (f + 1) - D.bP f) := ⟨_, rfl⟩
  have hm : ∀ q, q ∈ l ↔ D.bP f ≤ q ∧ q < D.bP (f + 1) ∧ D.K q = 17 := fun q => by rw [hl, fnL_mem]; constructor <;> intro h <;> exact ⟨h.1, by omega, h.2.2⟩
  have hlen : l.length = fnC D (D.bP f) (D.bP (f + 1) - D.bP f) := by rw [hl, fnL_len]
  have hnd : (l.map D.vl).Nodup := map_nd l (by rw [hl]; exact fnL_nd _ _) (fun x y hx hy e => by
    obtain ⟨x1, x2, x3⟩ := (hm x).mp hx
    obtain ⟨y1, y2, y3⟩ := (hm y).mp hy
    exact (hF.fnu hf hf x1 x2 y1 y2 x3 y3 e).2)
  have h1 : (l.map D.vl).length ≤ (List.range' (D.bF f) (D.bF (f + 1) - D.bF f)).length := nodup_len _ _ hnd (fun h hh => by
    obtain ⟨q, hq, e⟩ := List.mem_map.mp hh
    obtain ⟨q1, q2, q3⟩ := (hm q).mp hq
    obtain ⟨a1, a2⟩ := (hPf.2.2.1 q q1 q2).2.2.2.2.2.2.1 q3
    rw [← e]
    exact List.mem_range'_1.mpr ⟨a1, by omega⟩)
  have h2 : (List.range' (D.bF f) (D.bF (f + 1) - D.bF f)).length ≤ (l.map D.vl).length := nodup_len _ _ List.nodup_range' (fun h hh => by
    have := List.mem_range'_1.mp hh
    obtain ⟨q, q1, q2, q3, q4⟩ := hPf.2.2.2.2.1 h this.1 (by omega)
    exact List.mem_map.mpr ⟨q, (hm q).mpr ⟨q1, q2, q3⟩, q4⟩)
  rw [List.length_map, List.length_range'] at h1 h2
  omega
end FNCOUNT
