/-! COLLECTIONS: how many objects, how many words -/
def suL (w : Nat → Nat) : List Nat → Nat
  | [] => 0
  | o :: r => w o + suL w r
section PACKING
variable {hp : Nat → obD} {Q : List Nat} {wd n : Nat} {sv : Nat → vaL} {w pl : Nat → Nat}
theorem suL_app : ∀ (a b : List Nat), suL w (a ++ b) = suL w a + suL w b := by
  intro a
  induction a with
  | nil => intro b; show suL w b = 0 + suL w b; omega
  | cons o a ih => intro b; show w o + suL w (a ++ b) = w o + suL w a + suL w b; rw [ih b]; omega
theorem suL_le {v : Nat → Nat} : ∀ (a : List Nat), (∀ o, o ∈ a → v o ≤ w o) → suL v a ≤ suL w a := by
  intro a
  induction a with
  | nil => intro _; exact Nat.le_refl _
  | cons o a ih =>
    intro h
    have h1 := h o List.mem_cons_self
    have h2 := ih (fun x hx => h x (List.mem_cons_of_mem _ hx))
    show v o + suL v a ≤ w o + suL w a
    omega
/-- the words of objects -/
def woL (w pl : Nat → Nat) : List Nat → List Nat
  | [] => []
  | o :: r => (List.range (w o)).map (fun j => pl o + j) ++ woL w pl r
theorem woL_len : ∀ Q, (woL w pl Q).length = suL w Q := by
  intro Q
  induction Q with
  | nil => rfl
  | cons o r ih => show ((List.range (w o)).map (fun j => pl o + j) ++ woL w pl r).length = w o + suL w r; rw [List.length_append, List.length_map, List.length_range, ih]
theorem woL_mem {x : Nat} : ∀ Q, x ∈ woL w pl Q → ∃ o, o ∈ Q ∧ pl o ≤ x ∧ x < pl o + w o := by
  intro Q
  induction Q with
  | nil => intro h; cases h
  | cons o r ih =>
    intro h
    rcases List.mem_append.mp h with g | g
    · obtain ⟨j, j1, j2⟩ := List.mem_map.mp g
      have := List.mem_range.mp j1
      exact ⟨o, List.mem_cons_self, by omega, by omega⟩
    · obtain ⟨o', h1, h2⟩ := ih g
      exact ⟨o', List.mem_cons_of_mem _ h1, h2⟩
theorem woL_nodup : ∀ Q : List Nat, Q.Nodup → (∀ o o', o ∈ Q → o' ∈ Q → o ≠ o' → pl o + w o ≤ pl o' ∨ pl o' + w o' ≤ pl o) → (woL w pl Q).Nodup := by
  intro Q
  induction Q with
  | nil => intro _ _; exact List.nodup_nil
  | cons o r ih =>
    intro hd hj
    rw [List.nodup_cons] at hd
    show ((List.range (w o)).map (fun j => pl o + j) ++ woL w pl r).Nodup
    rw [List.nodup_append]
    refine ⟨?_, ih hd.2 (fun a b ha hb => hj a b (List.mem_cons_of_mem _ ha) (List.mem_cons_of_mem _ hb)), fun a ha b hb e => ?_⟩
    · rw [List.nodup_iff_pairwise_ne, List.pairwise_map]
      refine List.Pairwise.imp ?_ (List.nodup_iff_pairwise_ne.mp List.nodup_range)
      intro a b h e; exact h (by omega)
    · obtain ⟨j, j1, j2⟩ := List.mem_map.mp ha
      have := List.mem_range.mp j1
      obtain ⟨o', g1, g2, g3⟩ := woL_mem _ hb
      rcases hj o o' List.mem_cons_self (List.mem_cons_of_mem _ g1) (fun e' => hd.1 (by rw [e']; exact g1)) with q | q <;> omega
/-- what lies in so many pages has no more words than these -/
theorem packing {ex : List Nat} (hQ : Q.Nodup) (hj : ∀ o o', o ∈ Q → o' ∈ Q → o ≠ o' → pl o + w o ≤ pl o' ∨ pl o' + w o' ≤ pl o) (hp : ∀ o, o ∈ Q → ∃ p, p ∈ ex ∧ p * wd ≤ pl o ∧ pl o + w o ≤ p * wd + wd) : suL w Q ≤ ex.length * wd := by
  have h := nodup_len _ (woL (fun _ => wd) (fun p => p * wd) ex) (woL_nodup Q hQ hj) (fun x hx => by
    obtain ⟨o, h1, h2, h3⟩ := woL_mem _ hx
    obtain ⟨p, p1, p2, p3⟩ := hp o h1
    have hin : ∀ l : List Nat, p ∈ l → x ∈ woL (fun _ => wd) (fun p => p * wd) l := by
      intro l
      induction l with
      | nil => intro h; cases h
      | cons q r ih =>
        intro h
        rcases List.mem_cons.mp h with e | e
        · subst e
          exact List.mem_append_left _ (List.mem_map.mpr ⟨x - p * wd, List.mem_range.mpr (by show x - p * wd < wd; omega), by show p * wd + (x - p * wd) = x; omega⟩)
        · exact List.mem_append_right _ (ih e)
    exact hin ex p1)
  rw [woL_len, woL_len] at h
  have hc : ∀ l : List Nat, suL (fun _ => wd) l = l.length * wd := by
    intro l
    induction l with
    | nil => show 0 = 0 * wd; rw [Nat.zero_mul]
    | cons q r ih => show wd + suL (fun _ => wd) r = (r.length + 1) * wd; rw [ih, Nat.add_mul]; omega
  rw [hc] at h
  exact h
/-- how many are met -/
theorem meQ_len (v : vaL) : (meQ Q v).length ≤ Q.length + 1 := by
  unfold meQ
  by_cases h : v.1 = 2 ∧ oid v ∉ Q
  · rw [if_pos h, List.length_append]; exact Nat.le_refl _
  · rw [if_neg h]; omega
theorem stQ_len : ∀ n, (stQ sv n).length ≤ n := by
  intro n
  induction n with
  | zero => exact Nat.le_refl _
  | succ n ih => have := meQ_len (Q := stQ sv n) (sv n); show (meQ (stQ sv n) (sv n)).length ≤ n + 1; omega
theorem cmQ_len {co : List vaL} : ∀ t, (cmQ Q co t).length ≤ Q.length + t := by
  intro t
  induction t with
  | zero => exact Nat.le_refl _
  | succ t ih =>
    unfold cmQ
    split
    · have := meQ_len (Q := cmQ Q co t) (by assumption); omega
    · omega
theorem bfQ_len (hs : ∀ k o, o ∈ bfQ hp Q k → (hp o).co.length + 1 ≤ szO (hp o)) : ∀ k, k ≤ (bfQ hp Q k).length → (bfQ hp Q k).length + k ≤ Q.length + suL (fun o => szO (hp o)) ((bfQ hp Q k).take k) := by
  intro k
  induction k with
  | zero => intro _; show Q.length + 0 ≤ Q.length + _; omega
  | succ k ih =>
    intro hk
    cases e : (bfQ hp Q k)[k]? with
    | none =>
      have h1 : bfQ hp Q (k + 1) = bfQ hp Q k := by
        show (match (bfQ hp Q k)[k]? with | some o => cmQ (bfQ hp Q k) (hp o).co (hp o).co.length | none => bfQ hp Q k) = _
        rw [e]
      rw [h1] at hk
      have := List.getElem?_eq_none_iff.mp e
      omega
    | some o =>
      have hl := (List.getElem?_eq_some_iff.mp e).1
      have h1 := bfQ_succ e
      have h2 := ih (by omega)
      have hpre := bfQ_step (hp := hp) (Q := Q) k
      have e2 : (bfQ hp Q (k + 1)).take (k + 1) = (bfQ hp Q k).take k ++ [o] := by
        obtain ⟨s, hs⟩ := hpre
        rw [hs, List.take_append_of_le_length (by omega), List.take_add_one, e]; rfl
      rw [e2, suL_app]
      have h3 := cmQ_len (Q := bfQ hp Q k) (co := (hp o).co) (hp o).co.length
      rw [← h1] at h3
      have h4 : suL (fun o => szO (hp o)) [o] = szO (hp o) := by show szO (hp o) + 0 = _; omega
      have := hs k o (List.mem_of_getElem? e)
      rw [h4]
      omega
end PACKING
section ROOMS
variable {hp : Nat → obD} {Q : List Nat} {wd nr : Nat}
/-- what is still free in the latest pages -/
def spF (A : alD) (wd nr : Nat) : Nat := sumF (fun r => if (A.1 r).2.1 = 0 then 0 else wd - (A.1 r).2.2) 0 nr
theorem sumF_uq {f g : Nat → Nat} {q : Nat} : ∀ nr, (∀ r, r ≠ q → g r = f r) → q < nr → sumF g 0 nr + f q = sumF f 0 nr + g q := by
  intro nr
  induction nr with
  | zero => intro _ h; omega
  | succ nr ih =>
    intro h hq
    show sumF g 0 nr + g (0 + nr) + f q = sumF f 0 nr + f (0 + nr) + g q
    rw [Nat.zero_add]
    by_cases e : q = nr
    · subst e
      have : ∀ m, m ≤ q → sumF g 0 m = sumF f 0 m := by
        intro m
        induction m with
        | zero => intro _; rfl
        | succ m ihm =>
          intro hm
          show sumF g 0 m + g (0 + m) = sumF f 0 m + f (0 + m)
          rw [ihm (by omega), h (0 + m) (by omega)]
      rw [this q (Nat.le_refl _)]; omega
    · have := ih h (by omega)
      rw [h nr (fun e' => e e'.symm)]; omega
theorem alQ_words (hs : ∀ o, o ∈ Q → szO (hp o) ≤ wd ∧ (hp o).gi < nr) : ∀ k, suL (fun o => szO (hp o)) (Q.take k) + spF (alQ hp wd Q k) wd nr ≤ (alQ hp wd Q k).2 * wd ∧ ∀ r, ((alQ hp wd Q k).1 r).2.2 ≤ wd := by
  intro k
  induction k with
  | zero =>
    refine ⟨?_, fun r => Nat.zero_le _⟩
    show suL _ (Q.take 0) + spF (fun _ => (0, 0, 0), 0) wd nr ≤ 0 * wd
    have : ∀ m, sumF (fun r => if ((((fun _ => (0, 0, 0)), 0) : alD).1 r).2.1 = 0 then 0 else wd - ((((fun _ => (0, 0, 0)), 0) : alD).1 r).2.2) 0 m = 0 := by
      intro m
      induction m with
      | zero => rfl
      | succ m ih => show sumF _ 0 m + 0 = 0; rw [ih]
    unfold spF
    rw [this nr, List.take_zero, Nat.zero_mul]
    exact Nat.le_refl _
  | succ k ih =>
    obtain ⟨ih1, ih2⟩ := ih
    cases e : Q[k]? with
    | none =>
      have h1 : alQ hp wd Q (k + 1) = alQ hp wd Q k := by
        show (match Q[k]? with | some o => pgA wd (alQ hp wd Q k) (hp o).gi (szO (hp o)) | none => alQ hp wd Q k) = _
        rw [e]
      have h2 : Q.take (k + 1) = Q.take k := by rw [List.take_add_one, e]; exact List.append_nil _
      rw [h1, h2]; exact ⟨ih1, ih2⟩
    | some o =>
      obtain ⟨g1, g2⟩ := hs o (List.mem_of_getElem? e)
      have h2 : Q.take (k + 1) = Q.take k ++ [o] := by rw [List.take_add_one, e]; rfl
      have h4 : suL (fun o => szO (hp o)) [o] = szO (hp o) := by show szO (hp o) + 0 = _; omega
      rw [h2, suL_app, h4, alQ_succ e]
      obtain ⟨A, hA⟩ : ∃ A, A = alQ hp wd Q k := ⟨_, rfl⟩
      rw [← hA] at ih1 ih2 ⊢
      obtain ⟨r, hr⟩ : ∃ r, r = (hp o).gi := ⟨_, rfl⟩
      obtain ⟨sz, hz⟩ : ∃ z, z = szO (hp o) := ⟨_, rfl⟩
      rw [← hr] at g2 ⊢
      rw [← hz] at g1 ⊢
      have key := sumF_uq (f := fun q => if (A.1 q).2.1 = 0 then 0 else wd - (A.1 q).2.2) (g := fun q => if ((pgA wd A r sz).1 q).2.1 = 0 then 0 else wd - ((pgA wd A r sz).1 q).2.2) (q := r) nr (fun q hq => by
        unfold pgA
        by_cases c : (A.1 r).2.1 = 0 ∨ wd < (A.1 r).2.2 + sz
        · rw [if_pos c]; show (if (uq A.1 r _ q).2.1 = 0 then 0 else wd - (uq A.1 r _ q).2.2) = _; rw [uq_ne hq]
        · rw [if_neg c]; show (if (uq A.1 r _ q).2.1 = 0 then 0 else wd - (uq A.1 r _ q).2.2) = _; rw [uq_ne hq]) g2
      have e1 : spF A wd nr = sumF (fun q => if (A.1 q).2.1 = 0 then 0 else wd - (A.1 q).2.2) 0 nr := rfl
      have e2 : spF (pgA wd A r sz) wd nr = sumF (fun q => if ((pgA wd A r sz).1 q).2.1 = 0 then 0 else wd - ((pgA wd A r sz).1 q).2.2) 0 nr := rfl
      rw [← e1, ← e2] at key
      by_cases c : (A.1 r).2.1 = 0 ∨ wd < (A.1 r).2.2 + sz
      · have ep : pgA wd A r sz = (uq A.1 r ((A.1 r).1 + 1, (A.1 r).2.1 + 1, sz), A.2 + 1) := by unfold pgA; rw [if_pos c]
        have k1 : (if ((pgA wd A r sz).1 r).2.1 = 0 then 0 else wd - ((pgA wd A r sz).1 r).2.2) = wd - sz := by
          rw [ep]; show (if (uq A.1 r _ r).2.1 = 0 then 0 else wd - (uq A.1 r _ r).2.2) = _; rw [uq_self]; rfl
        have key : spF (pgA wd A r sz) wd nr + (if (A.1 r).2.1 = 0 then 0 else wd - (A.1 r).2.2) = spF A wd nr + (if ((pgA wd A r sz).1 r).2.1 = 0 then 0 else wd - ((pgA wd A r sz).1 r).2.2) := key
        rw [k1] at key
        refine ⟨?_, fun q => ?_⟩
        · have e3 : (pgA wd A r sz).2 = A.2 + 1 := by rw [ep]
          rw [e3, Nat.add_mul, Nat.one_mul]; omega
        · rw [ep]
          show (uq A.1 r _ q).2.2 ≤ wd
          by_cases eq : q = r
          · rw [eq, uq_self]; exact g1
          · rw [uq_ne eq]; exact ih2 q
      · have ep : pgA wd A r sz = (uq A.1 r ((A.1 r).1 + 1, (A.1 r).2.1, (A.1 r).2.2 + sz), A.2) := by unfold pgA; rw [if_neg c]
        have k1 : (if ((pgA wd A r sz).1 r).2.1 = 0 then 0 else wd - ((pgA wd A r sz).1 r).2.2) = wd - ((A.1 r).2.2 + sz) := by
          rw [ep]; show (if (uq A.1 r _ r).2.1 = 0 then 0 else wd - (uq A.1 r _ r).2.2) = _; rw [uq_self]
          exact if_neg (fun h => c (.inl h))
        have key : spF (pgA wd A r sz) wd nr + (if (A.1 r).2.1 = 0 then 0 else wd - (A.1 r).2.2) = spF A wd nr + (if ((pgA wd A r sz).1 r).2.1 = 0 then 0 else wd - ((pgA wd A r sz).1 r).2.2) := key
        rw [k1, if_neg (fun h => c (.inl h))] at key
        refine ⟨?_, fun q => ?_⟩
        · have e3 : (pgA wd A r sz).2 = A.2 := by rw [ep]
          rw [e3]; omega
        · rw [ep]
          show (uq A.1 r _ q).2.2 ≤ wd
          by_cases eq : q = r
          · rw [eq, uq_self]; show (A.1 r).2.2 + sz ≤ wd; omega
          · rw [uq_ne eq]; exact ih2 q
end ROOMS
