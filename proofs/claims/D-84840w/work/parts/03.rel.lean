/-! HOW THE REAL HEAP HOLDS THE PURE ONE -/
/-- base address; addresses of String constants; values of '.retAddr' (arrays from outside); class numbers and slots; classes; array classes by tag; the heap at the law's start -/
abbrev pvE : Type := Nat × (Nat → Nat) × (Nat → Value) × va_G × List vw_C × (Nat → ClassId) × Heap
def pv_B (E : pvE) : Nat := E.1
def pv_sa (E : pvE) : Nat → Nat := E.2.1
def pv_xv (E : pvE) : Nat → Value := E.2.2.1
def pv_D (E : pvE) : va_G := E.2.2.2.1
def pv_cl (E : pvE) : List vw_C := E.2.2.2.2.1
def pv_cA (E : pvE) : Nat → ClassId := E.2.2.2.2.2.1
def pv_H0 (E : pvE) : Heap := E.2.2.2.2.2.2
def pv_im (E : pvE) : Value → Value
  | .ref k => .ref (pv_B E + k)
  | .float j => .ref (pv_sa E j.toNat)
  | .retAddr j => pv_xv E j
  | .int x => .int x
  | .long x => .long x
  | .double x => .double x
  | .null => .null
def pv_ty : Nat → FieldType
  | 0 => .int
  | 1 => .byte
  | 2 => .long
  | 3 => .boolean
  | _ => .object "java/lang/String"
def pv_xvOK (E : pvE) : Prop := ∀ j, pv_xv E j = .null ∨ ∃ a, pv_xv E j = .ref a
theorem pv_im_cat {E : pvE} (hx : pv_xvOK E) (v : Value) : (pv_im E v).category = v.category := by
  cases v with
  | retAddr j =>
    rcases hx j with h | ⟨a, h⟩
    · show (pv_xv E j).category = _
      rw [h]; rfl
    · show (pv_xv E j).category = _
      rw [h]; rfl
  | _ => rfl
theorem pv_im_R {E : pvE} (hx : pv_xvOK E) {v : Value} (h : pv_isR v = true) : pv_im E v = .null ∨ ∃ a, pv_im E v = .ref a := by
  cases v with
  | ref k => exact Or.inr ⟨_, rfl⟩
  | null => exact Or.inl rfl
  | float j => exact Or.inr ⟨_, rfl⟩
  | retAddr j => exact hx j
  | int x => cases h
  | long x => cases h
  | double x => cases h
def pv_imq (E : pvE) (q : Nat × Value) : Nat × Value := (q.1, pv_im E q.2)
theorem pv_at {E : pvE} {ls : Array Slot} {nL : Nat} {lv : pvL} {i : Nat} {v : Value} (h : lv_has ls nL (lv.map (pv_imq E))) (hg : pv_get lv i = some v) : ls[i]? = some (.val (pv_im E v)) := by
  unfold pv_get at hg
  cases hf : lv.find? (fun q => q.1 == i) with
  | none => rw [hf] at hg; cases hg
  | some q =>
    rw [hf] at hg
    cases hg
    have h1 : q.1 = i := by
      have := List.find?_some hf
      simpa using this
    have h2 := h.2.2 (pv_imq E q) (List.mem_map_of_mem (List.mem_of_find?_eq_some hf))
    rw [← h1]
    exact h2
theorem pv_filter_map {E : pvE} (hx : pv_xvOK E) (lv : pvL) (f : Nat → Nat → Bool) : (lv.map (pv_imq E)).filter (fun q => f q.1 q.2.category) = (lv.filter (fun q => f q.1 q.2.category)).map (pv_imq E) := by
  induction lv with
  | nil => rfl
  | cons q r ih =>
    have hc : (pv_imq E q).2.category = q.2.category := pv_im_cat hx q.2
    simp only [List.map_cons, List.filter_cons]
    rw [hc]
    show (if f q.1 q.2.category = true then _ else _) = _
    split
    · rw [ih]; rfl
    · exact ih
theorem pv_set1_map {E : pvE} (hx : pv_xvOK E) (lv : pvL) (i : Nat) (v : Value) : (i, pv_im E v) :: (lv.map (pv_imq E)).filter (fun q => !(q.1 == i) && !(q.1 + 1 == i && q.2.category == 2)) = (pv_set1 lv i v).map (pv_imq E) := by
  unfold pv_set1
  rw [List.map_cons, pv_filter_map hx lv (fun a b => !(a == i) && !(a + 1 == i && b == 2))]
  rfl
theorem pv_set2_map {E : pvE} (hx : pv_xvOK E) (lv : pvL) (i : Nat) (v : Value) : (i, pv_im E v) :: (lv.map (pv_imq E)).filter (fun q => !(q.1 == i) && (!(q.1 == i + 1) && !(q.1 + 1 == i && q.2.category == 2))) = (pv_set2 lv i v).map (pv_imq E) := by
  unfold pv_set2
  rw [List.map_cons, pv_filter_map hx lv (fun a b => !(a == i) && (!(a == i + 1) && !(a + 1 == i && b == 2)))]
  rfl
/-- what an array of a tag has -/
def pv_typ (c : pvC) : Prop := (c.1 = 0 → ∀ j, ∃ x, c.2.2 j = .int x)
/-- a cell at an address -/
def pv_cellR (E : pvE) (c : pvC) (a : Nat) (H : Heap) : Prop :=
  ((c.1 < 10 ∧ pv_typ c) ∧ H[a]? = some (arrV (pv_cA E c.1) c.2.1 (fun j => pv_im E (c.2.2 j)))) ∨
  (∃ (ci : Nat) (r : vw_C), c.1 = 10 + ci ∧ ci < 990 ∧ (pv_cl E)[ci]? = some r ∧ r.2.2 = c.2.1 ∧ t_OB a ((pv_D E).1 ci) r.2.2 ((pv_D E).2 ci) H (fun j => pv_im E (c.2.2 j))) ∨
  (∃ (ci : Nat) (cell : Cell), (c.1 = 1000 + ci ∧ 16 ≤ ci ∧ ci < 20) ∧ H[a]? = some cell ∧ cell.cls = (pv_D E).1 ci ∧ cell.vm = .none)
theorem pv_cellR.kept {E : pvE} {c : pvC} {a : Nat} {H H1 : Heap} (h : pv_cellR E c a H) (e : H1[a]? = H[a]?) : pv_cellR E c a H1 := by
  rcases h with ⟨h1, h2⟩ | ⟨ci, r, h1, h2, h3, h4, h5⟩ | ⟨ci, cell, h1, h2, h3⟩
  · exact Or.inl ⟨h1, e.trans h2⟩
  · exact Or.inr (Or.inl ⟨ci, r, h1, h2, h3, h4, h5.kept e⟩)
  · exact Or.inr (Or.inr ⟨ci, cell, h1, e.trans h2, h3⟩)
theorem pv_cellR.arr {E : pvE} {c : pvC} {a : Nat} {H : Heap} (h : pv_cellR E c a H) {t : Nat} (ht : c.1 = t) (h10 : t < 10) : H[a]? = some (arrV (pv_cA E t) c.2.1 (fun j => pv_im E (c.2.2 j))) := by
  rcases h with ⟨h1, h2⟩ | ⟨ci, r, h1, -⟩ | ⟨ci, cell, h1, -⟩
  · rw [← ht]; exact h2
  · omega
  · omega
theorem pv_cellR.ints {E : pvE} {c : pvC} {a : Nat} {H : Heap} (h : pv_cellR E c a H) (ht : c.1 = 0) : ∀ j, ∃ x, c.2.2 j = .int x := by
  rcases h with ⟨h1, h2⟩ | ⟨ci, r, h1, -⟩ | ⟨ci, cell, h1, -⟩
  · exact h1.2 ht
  · omega
  · omega
theorem pv_cellR.obj {E : pvE} {c : pvC} {a : Nat} {H : Heap} (h : pv_cellR E c a H) {ci : Nat} (ht : c.1 = 10 + ci) (h10 : ci < 990) : ∃ r : vw_C, (pv_cl E)[ci]? = some r ∧ r.2.2 = c.2.1 ∧ t_OB a ((pv_D E).1 ci) r.2.2 ((pv_D E).2 ci) H (fun j => pv_im E (c.2.2 j)) := by
  rcases h with ⟨h1, h2⟩ | ⟨ci', r, h1, h2, h3, h4, h5⟩ | ⟨ci', cell, h1, -⟩
  · omega
  · have : ci' = ci := by omega
    subst this
    exact ⟨r, h3, h4, h5⟩
  · omega
/-- some object, whatever it is -/
theorem pv_cellR.any {E : pvE} {c : pvC} {a : Nat} {H : Heap} (h : pv_cellR E c a H) : ∃ cell : Cell, H[a]? = some cell ∧ cell.vm = .none := by
  rcases h with ⟨h1, h2⟩ | ⟨ci, r, h1, h2, h3, h4, h5⟩ | ⟨ci, cell, h1, h2, h3, h4⟩
  · exact ⟨_, h2, rfl⟩
  · obtain ⟨cell, q1, q2, q3, -⟩ := h5
    exact ⟨cell, q1, q3⟩
  · exact ⟨cell, h2, h4⟩
def pv_Rel (E : pvE) (R : Room) (h : pvH) (H : Heap) (locs : List Loc) (cells slots : Nat) : Prop :=
  H.size = pv_B E + h.2.1 ∧ (∀ k, k < h.2.1 → pv_cellR E (h.1 k) (pv_B E + k) H) ∧ (∀ q, q < pv_B E → H[q]? = (pv_H0 E)[q]?) ∧ (∀ q ∈ locs, pv_B E ≤ q.base) ∧ cells + h.2.2.1 ≤ R.cells ∧ slots + h.2.2.2 ≤ R.slots
theorem pv_Rel.put {E : pvE} {R : Room} {h : pvH} {H H1 : Heap} {locs : List Loc} {cells slots k i : Nat} {c : pvC} (hR : pv_Rel E R h H locs cells slots) (hc : pv_cellR E c (pv_B E + k) H1) (hs : H1.size = H.size) (ho : ∀ q, q ≠ pv_B E + k → H1[q]? = H[q]?) :
    pv_Rel E R (pv_put h k c) H1 (locs ++ [⟨pv_B E + k, i⟩]) cells slots := by
  obtain ⟨h1, h2, h3, h4, h5, h6⟩ := hR
  refine ⟨by rw [hs]; exact h1, fun j hj => ?_, fun q hq => ?_, t_lc h4 (by omega), h5, h6⟩
  · show pv_cellR E (va_up h.1 k c j) _ _
    unfold va_up
    by_cases e : j = k
    · rw [if_pos e, e]; exact hc
    · rw [if_neg e]; exact (h2 j hj).kept (ho _ (by omega))
  · rw [ho q (by omega)]; exact h3 q hq
theorem pv_Rel.new {E : pvE} {R : Room} {h : pvH} {H H1 : Heap} {locs : List Loc} {cells slots : Nat} {c : pvC} (hR : pv_Rel E R h H locs cells slots) (hl : 1 ≤ h.2.2.1 ∧ c.2.1 ≤ h.2.2.2) (hc : pv_cellR E c (pv_B E + h.2.1) H1) (hs : H1.size = H.size + 1) (ho : ∀ q, q < H.size → H1[q]? = H[q]?) :
    pv_Rel E R (pv_new h c) H1 locs (cells + 1) (slots + c.2.1) := by
  obtain ⟨h1, h2, h3, h4, h5, h6⟩ := hR
  refine ⟨?_, fun j hj => ?_, fun q hq => ?_, h4, ?_, ?_⟩
  · show H1.size = pv_B E + (h.2.1 + 1)
    omega
  · show pv_cellR E (va_up h.1 h.2.1 c j) _ _
    unfold va_up
    by_cases e : j = h.2.1
    · rw [if_pos e, e]; exact hc
    · rw [if_neg e]
      have hj' : j < h.2.1 + 1 := hj
      exact (h2 j (by omega)).kept (ho _ (by omega))
  · rw [ho q (by omega)]; exact h3 q hq
  · show cells + 1 + (h.2.2.1 - 1) ≤ R.cells
    omega
  · show slots + c.2.1 + (h.2.2.2 - c.2.1) ≤ R.slots
    omega
theorem pv_upV {E : pvE} {f : Nat → Value} {k : Nat} {x : Value} : updV (fun j => pv_im E (f j)) k (pv_im E x) = fun j => pv_im E (va_up f k x j) := by
  funext j
  unfold updV va_up
  split <;> rfl
