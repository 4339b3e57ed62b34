/-! THE NAMED MACHINE IS THE PURE ONE: values, locals, memory -/
def mv (ρ : Nat → Nat) (v : Value) : Value := match v with
  | .ref k => .ref (if k < 239 then ρ k else k - 239)
  | v => v
theorem mv_cat (ρ : Nat → Nat) (v : Value) : (mv ρ v).category = v.category := by cases v <;> rfl
theorem mv_isR (ρ : Nat → Nat) (v : Value) : pv_isR (mv ρ v) = pv_isR v := by cases v <;> rfl
theorem mv_cats (ρ : Nat → Nat) (l : List Value) : (l.map (mv ρ)).map Value.category = l.map Value.category := by
  rw [List.map_map]
  exact List.map_congr_left (fun v _ => mv_cat ρ v)
def ndb (v : Value) : Prop := ∀ x, v ≠ .double x
def tvLs (ρ : Nat → Nat) (ls : tvL) (pls : pvL) : Prop := ∀ i v, ls[i]? = some v → ndb v → pv_get pls i = some (mv ρ v)
theorem lg_at : ∀ (ls : tvL) (k : Nat), ndb (lg ls k) → ls[k]? = some (lg ls k) := by
  intro ls
  induction ls with
  | nil => intro k h; exact absurd rfl (h 0)
  | cons a r ih =>
    intro k h
    cases k with
    | zero => rfl
    | succ k => exact ih k h
theorem tvLs.get {ρ : Nat → Nat} {ls : tvL} {pls : pvL} (h : tvLs ρ ls pls) {k : Nat} (hn : ndb (lg ls k)) : pv_get pls k = some (mv ρ (lg ls k)) := h k _ (lg_at ls k hn) hn
theorem pv_get_filter {f : Nat × Value → Bool} {i : Nat} {v : Value} (hf : f (i, v) = true) : ∀ (l : pvL), pv_get l i = some v → pv_get (l.filter f) i = some v := by
  intro l
  induction l with
  | nil => intro h; cases h
  | cons q r ih =>
    intro h
    unfold pv_get at h ih ⊢
    by_cases hq : q.1 = i
    · rw [List.find?_cons_of_pos (by simpa using hq)] at h
      have hv : q.2 = v := Option.some.inj h
      have hfq : f q = true := by rw [← hf, ← hq, ← hv]
      rw [List.filter_cons_of_pos hfq, List.find?_cons_of_pos (by simpa using hq)]
      exact h
    · rw [List.find?_cons_of_neg (by simpa using hq)] at h
      by_cases hfq : f q = true
      · rw [List.filter_cons_of_pos hfq, List.find?_cons_of_neg (by simpa using hq)]
        exact ih h
      · rw [List.filter_cons_of_neg hfq]
        exact ih h
theorem pv_get_cons_self {i : Nat} {v : Value} {l : pvL} : pv_get ((i, v) :: l) i = some v := by
  unfold pv_get
  rw [List.find?_cons_of_pos (by simp)]
  rfl
theorem pv_get_cons_ne {i k : Nat} {v : Value} {l : pvL} (h : k ≠ i) : pv_get ((k, v) :: l) i = pv_get l i := by
  unfold pv_get
  rw [List.find?_cons_of_neg (by simpa using h)]
theorem pv_set1_ne {i k : Nat} {v w : Value} {l : pvL} (h : k ≠ i) (hc : i + 1 = k → v.category ≠ 2) (hg : pv_get l i = some v) : pv_get (pv_set1 l k w) i = some v := by
  unfold pv_set1
  rw [pv_get_cons_ne h]
  refine pv_get_filter ?_ l hg
  simp only [Bool.and_eq_true, Bool.not_eq_true', beq_eq_false_iff_ne, ne_eq, Bool.and_eq_false_iff]
  refine ⟨fun e => h e.symm, ?_⟩
  by_cases e : i + 1 = k
  · exact Or.inr (hc e)
  · exact Or.inl e
theorem pv_set2_ne {i k : Nat} {v w : Value} {l : pvL} (h : k ≠ i) (h2 : i ≠ k + 1) (hc : i + 1 = k → v.category ≠ 2) (hg : pv_get l i = some v) : pv_get (pv_set2 l k w) i = some v := by
  unfold pv_set2
  rw [pv_get_cons_ne h]
  refine pv_get_filter ?_ l hg
  simp only [Bool.and_eq_true, Bool.not_eq_true', beq_eq_false_iff_ne, ne_eq, Bool.and_eq_false_iff]
  refine ⟨fun e => h e.symm, h2, ?_⟩
  by_cases e : i + 1 = k
  · exact Or.inr (hc e)
  · exact Or.inl e
theorem ls1_at : ∀ (ls : tvL) (k : Nat) (v : Value) (i : Nat) (u : Value), (ls1 ls k v)[i]? = some u → (i = k ∧ u = v) ∨ (i + 1 = k ∧ ∃ a, ls[i]? = some a ∧ u = jk a) ∨ (i ≠ k ∧ i + 1 ≠ k ∧ ls[i]? = some u) := by
  intro ls
  induction ls with
  | nil => intro k v i u h; unfold ls1 at h; cases h
  | cons a r ih =>
    intro k v i u h
    match k with
    | 0 =>
      cases i with
      | zero => exact Or.inl ⟨rfl, (Option.some.inj h).symm⟩
      | succ i => exact Or.inr (Or.inr ⟨by omega, by omega, h⟩)
    | 1 =>
      cases i with
      | zero => exact Or.inr (Or.inl ⟨rfl, a, rfl, (Option.some.inj h).symm⟩)
      | succ i =>
        rcases ih 0 v i u h with ⟨h1, h2⟩ | ⟨h1, h2⟩ | ⟨h1, h2, h3⟩
        · exact Or.inl ⟨by omega, h2⟩
        · omega
        · exact Or.inr (Or.inr ⟨by omega, by omega, h3⟩)
    | k + 2 =>
      cases i with
      | zero => exact Or.inr (Or.inr ⟨by omega, by omega, h⟩)
      | succ i =>
        rcases ih (k + 1) v i u h with ⟨h1, h2⟩ | ⟨h1, h2⟩ | ⟨h1, h2, h3⟩
        · exact Or.inl ⟨by omega, h2⟩
        · exact Or.inr (Or.inl ⟨by omega, h2⟩)
        · exact Or.inr (Or.inr ⟨by omega, by omega, h3⟩)
theorem ls1_len : ∀ (ls : tvL) (k : Nat) (v : Value), (ls1 ls k v).length = ls.length := by
  intro ls
  induction ls with
  | nil => intro k v; unfold ls1; rfl
  | cons a r ih =>
    intro k v
    match k with
    | 0 => rfl
    | 1 => show (ls1 r 0 v).length + 1 = _; rw [ih]; rfl
    | k + 2 => show (ls1 r (k + 1) v).length + 1 = _; rw [ih]; rfl
theorem ls2_at : ∀ (ls : tvL) (k : Nat) (v : Value) (i : Nat) (u : Value), k + 1 < ls.length → (ls2 ls k v)[i]? = some u → (i = k ∧ u = v) ∨ (i = k + 1 ∧ u = jv) ∨ (i + 1 = k ∧ ∃ a, ls[i]? = some a ∧ u = jk a) ∨ (i ≠ k ∧ i ≠ k + 1 ∧ i + 1 ≠ k ∧ ls[i]? = some u) := by
  intro ls
  induction ls with
  | nil => intro k v i u hk h; exact absurd hk (Nat.not_lt_zero _)
  | cons a r ih =>
    intro k v i u hk h
    have hk' : k < r.length := Nat.lt_of_succ_lt_succ hk
    match k with
    | 0 =>
      cases r with
      | nil => exact absurd hk' (Nat.not_lt_zero _)
      | cons b r =>
        match i with
        | 0 => exact Or.inl ⟨rfl, (Option.some.inj h).symm⟩
        | 1 => exact Or.inr (Or.inl ⟨rfl, (Option.some.inj h).symm⟩)
        | i + 2 => exact Or.inr (Or.inr (Or.inr ⟨by omega, by omega, by omega, h⟩))
    | 1 =>
      have e : ls2 (a :: r) 1 v = jk a :: ls2 r 0 v := by cases r <;> rfl
      rw [e] at h
      cases i with
      | zero => exact Or.inr (Or.inr (Or.inl ⟨rfl, a, rfl, (Option.some.inj h).symm⟩))
      | succ i =>
        rcases ih 0 v i u hk' h with ⟨h1, h2⟩ | ⟨h1, h2⟩ | ⟨h1, h2⟩ | ⟨h1, h2, h3, h4⟩
        · exact Or.inl ⟨by omega, h2⟩
        · exact Or.inr (Or.inl ⟨by omega, h2⟩)
        · omega
        · exact Or.inr (Or.inr (Or.inr ⟨by omega, by omega, by omega, h4⟩))
    | k + 2 =>
      have e : ls2 (a :: r) (k + 2) v = a :: ls2 r (k + 1) v := by cases r <;> rfl
      rw [e] at h
      cases i with
      | zero => exact Or.inr (Or.inr (Or.inr ⟨by omega, by omega, by omega, h⟩))
      | succ i =>
        rcases ih (k + 1) v i u hk' h with ⟨h1, h2⟩ | ⟨h1, h2⟩ | ⟨h1, h2⟩ | ⟨h1, h2, h3, h4⟩
        · exact Or.inl ⟨by omega, h2⟩
        · exact Or.inr (Or.inl ⟨by omega, h2⟩)
        · exact Or.inr (Or.inr (Or.inl ⟨by omega, h2⟩))
        · exact Or.inr (Or.inr (Or.inr ⟨by omega, by omega, by omega, h4⟩))
theorem ls2_len : ∀ (ls : tvL) (k : Nat) (v : Value), (ls2 ls k v).length = ls.length := by
  intro ls
  induction ls with
  | nil => intro k v; unfold ls2; rfl
  | cons a r ih =>
    intro k v
    match k with
    | 0 => cases r <;> rfl
    | 1 =>
      have e : ls2 (a :: r) 1 v = jk a :: ls2 r 0 v := by cases r <;> rfl
      rw [e, List.length_cons, ih, List.length_cons]
    | k + 2 =>
      have e : ls2 (a :: r) (k + 2) v = a :: ls2 r (k + 1) v := by cases r <;> rfl
      rw [e, List.length_cons, ih, List.length_cons]
theorem jk_ndb {a : Value} (h : ndb (jk a)) : jk a = a ∧ a.category ≠ 2 := by
  cases a with
  | long x => exact absurd rfl (h 0)
  | double x => exact absurd rfl (h x)
  | _ => exact ⟨rfl, show (1 : Nat) ≠ 2 by decide⟩
theorem tvLs.set1 {ρ : Nat → Nat} {ls : tvL} {pls : pvL} (h : tvLs ρ ls pls) (k : Nat) (v : Value) : tvLs ρ (ls1 ls k v) (pv_set1 pls k (mv ρ v)) := by
  intro i u hu hn
  rcases ls1_at ls k v i u hu with ⟨rfl, rfl⟩ | ⟨h1, a, h2, rfl⟩ | ⟨h1, h2, h3⟩
  · exact pv_get_cons_self
  · obtain ⟨e1, e2⟩ := jk_ndb hn
    rw [e1] at hn ⊢
    exact pv_set1_ne (by omega) (fun _ => by rw [mv_cat]; exact e2) (h i a h2 hn)
  · exact pv_set1_ne (fun e => h1 e.symm) (fun e => absurd e h2) (h i u h3 hn)
theorem tvLs.set2 {ρ : Nat → Nat} {ls : tvL} {pls : pvL} (h : tvLs ρ ls pls) (k : Nat) (hk : k + 1 < ls.length) (v : Value) : tvLs ρ (ls2 ls k v) (pv_set2 pls k (mv ρ v)) := by
  intro i u hu hn
  rcases ls2_at ls k v i u hk hu with ⟨rfl, rfl⟩ | ⟨h1, rfl⟩ | ⟨h1, a, h2, rfl⟩ | ⟨h1, h2, h3, h4⟩
  · exact pv_get_cons_self
  · exact absurd rfl (hn 0)
  · obtain ⟨e1, e2⟩ := jk_ndb hn
    rw [e1] at hn ⊢
    exact pv_set2_ne (by omega) (by omega) (fun _ => by rw [mv_cat]; exact e2) (h i a h2 hn)
  · exact pv_set2_ne (fun e => h1 e.symm) h2 (fun e => absurd e h3) (h i u h4 hn)
/-- contents of a named cell -/
def tvC (σ : tvS) (k i : Nat) : Value := if tagN k = 2 then .long (rl σ k i) else if tagN k < 4 then .int (rd σ k i) else if tv_kd (ftP (tagN k - 10) i) < 2 then .int (rd σ k i) else .ref (rh σ (refN k i))
def tvRel (σ : tvS) (h : pvH) : Prop :=
  h.2 = rm σ ∧ (∀ k, k < 239 → rh σ k < (rm σ).1 ∧ (grw k = false → rh σ k = k) ∧ ∃ f, h.1 (rh σ k) = (tagN k, le σ k, f) ∧ (tagN k ≠ 4 → ∀ i, i < le σ k → f i = tvC σ k i)) ∧ (∀ j k, j < 239 → k < 239 → rh σ j = rh σ k → j = k)
theorem tagN_lt {k : Nat} (h : tagN k ≠ 9999) : k < 239 := by
  apply Classical.byContradiction
  intro hn
  apply h
  unfold tagN
  have hb : ∀ m, m ≤ 239 → Nat.blt k m = false := fun m hm => by
    cases e : Nat.blt k m with
    | false => rfl
    | true => exact absurd (Nat.blt_eq.mp e) (by omega)
  simp [hb]
theorem rd_wr (σ : tvS) (k i : Nat) (x : Int32) (k' i' : Nat) : rd (wr σ k i x) k' i' = if k' = k ∧ i' = i then x else rd σ k' i' := by
  show va_up σ.1 k (va_up (σ.1 k) i x) k' i' = _
  unfold va_up
  by_cases h : k' = k
  · subst h
    rw [if_pos rfl]
    by_cases h2 : i' = i
    · rw [if_pos h2, if_pos ⟨rfl, h2⟩]
    · rw [if_neg h2, if_neg (fun q => h2 q.2)]; rfl
  · rw [if_neg h, if_neg (fun q => h q.1)]; rfl
theorem rl_wl (σ : tvS) (k i : Nat) (x : Int64) (k' i' : Nat) : rl (wl σ k i x) k' i' = if k' = k ∧ i' = i then x else rl σ k' i' := by
  show va_up σ.2.1 k (va_up (σ.2.1 k) i x) k' i' = _
  unfold va_up
  by_cases h : k' = k
  · subst h
    rw [if_pos rfl]
    by_cases h2 : i' = i
    · rw [if_pos h2, if_pos ⟨rfl, h2⟩]
    · rw [if_neg h2, if_neg (fun q => h2 q.2)]; rfl
  · rw [if_neg h, if_neg (fun q => h q.1)]; rfl
theorem rl_wr (σ : tvS) (k i : Nat) (x : Int32) (k' i' : Nat) : rl (wr σ k i x) k' i' = rl σ k' i' := rfl
theorem rd_wl (σ : tvS) (k i : Nat) (x : Int64) (k' i' : Nat) : rd (wl σ k i x) k' i' = rd σ k' i' := rfl
theorem rh_wr (σ : tvS) (k i : Nat) (x : Int32) (j : Nat) : rh (wr σ k i x) j = rh σ j := rfl
theorem rh_wl (σ : tvS) (k i : Nat) (x : Int64) (j : Nat) : rh (wl σ k i x) j = rh σ j := rfl
theorem rel_wr {σ : tvS} {h : pvH} (hR : tvRel σ h) {k i : Nat} {f : Nat → Value} (hk : k < 239) (hc : h.1 (rh σ k) = (tagN k, le σ k, f)) (hI : tagN k ≠ 2 ∧ (tagN k < 4 ∨ tv_kd (ftP (tagN k - 10) i) < 2)) (x : Int32) : tvRel (wr σ k i x) (pv_put h (rh σ k) (tagN k, le σ k, va_up f i (.int x))) := by
  obtain ⟨h1, h2, h3⟩ := hR
  refine ⟨h1, fun j hj => ?_, h3⟩
  obtain ⟨q1, q2, g, q3, q4⟩ := h2 j hj
  refine ⟨q1, q2, ?_⟩
  show ∃ f', va_up h.1 (rh σ k) (tagN k, le σ k, va_up f i (.int x)) (rh σ j) = (tagN j, le σ j, f') ∧ (tagN j ≠ 4 → ∀ i', i' < le σ j → f' i' = tvC (wr σ k i x) j i')
  by_cases e : j = k
  · subst e
    rw [va_up_self]
    refine ⟨_, rfl, fun h4 i' hi' => ?_⟩
    have eg : g = f := by
      rw [hc] at q3
      have := (Prod.mk.inj (Prod.mk.inj q3).2).2
      exact this.symm
    subst eg
    by_cases e2 : i' = i
    · subst e2
      have e1 : rd (wr σ j i' x) j i' = x := by rw [rd_wr]; exact if_pos ⟨rfl, rfl⟩
      rw [va_up_self]
      unfold tvC
      rw [e1, if_neg hI.1]
      by_cases h6 : tagN j < 4
      · rw [if_pos h6]
      · rw [if_neg h6, if_pos (hI.2.resolve_left h6)]
    · have e1 : rd (wr σ j i x) j i' = rd σ j i' := by rw [rd_wr]; exact if_neg (fun q => e2 q.2)
      rw [va_up_ne _ _ e2, q4 h4 i' hi']
      unfold tvC
      rw [e1]
      rfl
  · rw [va_up_ne _ _ (fun q => e (h3 j k hj hk q))]
    refine ⟨g, q3, fun h4 i' hi' => ?_⟩
    have e1 : rd (wr σ k i x) j i' = rd σ j i' := by rw [rd_wr]; exact if_neg (fun q => e q.1)
    rw [q4 h4 i' hi']
    unfold tvC
    rw [e1]
    rfl
theorem rel_wl {σ : tvS} {h : pvH} (hR : tvRel σ h) {k i : Nat} {f : Nat → Value} (hk : k < 239) (hc : h.1 (rh σ k) = (tagN k, le σ k, f)) (hI : tagN k = 2) (x : Int64) : tvRel (wl σ k i x) (pv_put h (rh σ k) (tagN k, le σ k, va_up f i (.long x))) := by
  obtain ⟨h1, h2, h3⟩ := hR
  refine ⟨h1, fun j hj => ?_, h3⟩
  obtain ⟨q1, q2, g, q3, q4⟩ := h2 j hj
  refine ⟨q1, q2, ?_⟩
  show ∃ f', va_up h.1 (rh σ k) (tagN k, le σ k, va_up f i (.long x)) (rh σ j) = (tagN j, le σ j, f') ∧ (tagN j ≠ 4 → ∀ i', i' < le σ j → f' i' = tvC (wl σ k i x) j i')
  by_cases e : j = k
  · subst e
    rw [va_up_self]
    refine ⟨_, rfl, fun h4 i' hi' => ?_⟩
    have eg : g = f := by
      rw [hc] at q3
      have := (Prod.mk.inj (Prod.mk.inj q3).2).2
      exact this.symm
    subst eg
    by_cases e2 : i' = i
    · subst e2
      have e1 : rl (wl σ j i' x) j i' = x := by rw [rl_wl]; exact if_pos ⟨rfl, rfl⟩
      rw [va_up_self]
      unfold tvC
      rw [e1, if_pos hI]
    · have e1 : rl (wl σ j i x) j i' = rl σ j i' := by rw [rl_wl]; exact if_neg (fun q => e2 q.2)
      rw [va_up_ne _ _ e2, q4 h4 i' hi']
      unfold tvC
      rw [e1]
      rfl
  · rw [va_up_ne _ _ (fun q => e (h3 j k hj hk q))]
    refine ⟨g, q3, fun h4 i' hi' => ?_⟩
    have e1 : rl (wl σ k i x) j i' = rl σ j i' := by rw [rl_wl]; exact if_neg (fun q => e q.1)
    rw [q4 h4 i' hi']
    unfold tvC
    rw [e1]
    rfl
