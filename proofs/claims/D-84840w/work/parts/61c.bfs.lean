/-! COLLECTIONS, plainly: what is met, in which order; what room it takes -/
def oid (v : vaL) : Nat := ix v.2
def meQ (Q : List Nat) (v : vaL) : List Nat := if v.1 = 2 ∧ oid v ∉ Q then Q ++ [oid v] else Q
/-- what the stack has -/
def stQ (sv : Nat → vaL) : Nat → List Nat
  | 0 => []
  | k + 1 => meQ (stQ sv k) (sv k)
/-- and what is in an object -/
def cmQ (Q : List Nat) (co : List vaL) : Nat → List Nat
  | 0 => Q
  | t + 1 => match co[t]? with
    | some v => meQ (cmQ Q co t) v
    | none => cmQ Q co t
def bfQ (hp : Nat → obD) (Q : List Nat) : Nat → List Nat
  | 0 => Q
  | k + 1 => match (bfQ hp Q k)[k]? with
    | some o => cmQ (bfQ hp Q k) (hp o).co (hp o).co.length
    | none => bfQ hp Q k
/-- regions: objects, pages, words of the latest; pages in all -/
abbrev alD : Type := (Nat → Nat × Nat × Nat) × Nat
def pgA (wd : Nat) (A : alD) (r sz : Nat) : alD := if (A.1 r).2.1 = 0 ∨ wd < (A.1 r).2.2 + sz then (uq A.1 r ((A.1 r).1 + 1, (A.1 r).2.1 + 1, sz), A.2 + 1) else (uq A.1 r ((A.1 r).1 + 1, (A.1 r).2.1, (A.1 r).2.2 + sz), A.2)
def alQ (hp : Nat → obD) (wd : Nat) (Q : List Nat) : Nat → alD
  | 0 => (fun _ => (0, 0, 0), 0)
  | k + 1 => match Q[k]? with
    | some o => pgA wd (alQ hp wd Q k) (hp o).gi (szO (hp o))
    | none => alQ hp wd Q k
section BFS
variable {hp : Nat → obD} {Q Q' : List Nat} {v : vaL} {no wd : Nat} {sv : Nat → vaL}
/-- one goes on in the other -/
def preQ (Q Q' : List Nat) : Prop := ∃ s, Q' = Q ++ s
theorem preQ.refl : preQ Q Q := ⟨[], by rw [List.append_nil]⟩
theorem preQ.trans {Q'' : List Nat} (h : preQ Q Q') (g : preQ Q' Q'') : preQ Q Q'' := by
  obtain ⟨s, h⟩ := h
  obtain ⟨s', g⟩ := g
  exact ⟨s ++ s', by rw [g, h, List.append_assoc]⟩
theorem preQ.at {j o : Nat} (h : preQ Q Q') (hj : Q[j]? = some o) : Q'[j]? = some o := by
  obtain ⟨s, h⟩ := h
  rw [h, List.getElem?_append_left (List.getElem?_eq_some_iff.mp hj).1]; exact hj
theorem preQ.mem {o : Nat} (h : preQ Q Q') (hj : o ∈ Q) : o ∈ Q' := by
  obtain ⟨s, h⟩ := h
  rw [h]; exact List.mem_append_left _ hj
theorem preQ.len (h : preQ Q Q') : Q.length ≤ Q'.length := by
  obtain ⟨s, h⟩ := h
  rw [h, List.length_append]; omega
theorem meQ_pre : preQ Q (meQ Q v) := by
  unfold meQ
  by_cases h : v.1 = 2 ∧ oid v ∉ Q
  · rw [if_pos h]; exact ⟨_, rfl⟩
  · rw [if_neg h]; exact .refl
theorem meQ_mem (h : v.1 = 2) : oid v ∈ meQ Q v := by
  unfold meQ
  by_cases g : oid v ∈ Q
  · rw [if_neg (fun q => q.2 g)]; exact g
  · rw [if_pos ⟨h, g⟩]; exact List.mem_append_right _ List.mem_cons_self
theorem meQ_in {o : Nat} (h : o ∈ meQ Q v) : o ∈ Q ∨ (v.1 = 2 ∧ o = oid v) := by
  unfold meQ at h
  by_cases g : v.1 = 2 ∧ oid v ∉ Q
  · rw [if_pos g] at h
    rcases List.mem_append.mp h with q | q
    · exact .inl q
    · exact .inr ⟨g.1, List.mem_singleton.mp q⟩
  · rw [if_neg g] at h; exact .inl h
theorem oid_of {o : Nat} (h : v.2 = i32 (o : Int)) (ho : o < 2147483648) : oid v = o := by unfold oid; rw [h, i32_ixn ho]
/-- all are objects, each once -/
def okQ (no : Nat) (Q : List Nat) : Prop := Q.Nodup ∧ ∀ o, o ∈ Q → 1 ≤ o ∧ o ≤ no
theorem okQ.len (h : okQ no Q) : Q.length ≤ no := by
  have h1 : (Q.map (· - 1)).Nodup := by
    have hi : ∀ l : List Nat, l.Nodup → (∀ o, o ∈ l → 1 ≤ o) → (l.map (· - 1)).Nodup := by
      intro l
      induction l with
      | nil => intro _ _; exact List.nodup_nil
      | cons a l ih =>
        intro hd hl
        rw [List.nodup_cons] at hd
        rw [List.map_cons, List.nodup_cons]
        refine ⟨fun hm => ?_, ih hd.2 (fun o ho => hl o (List.mem_cons_of_mem _ ho))⟩
        obtain ⟨b, b1, b2⟩ := List.mem_map.mp hm
        have b2 : b - 1 = a - 1 := b2
        have := hl a List.mem_cons_self
        have := hl b (List.mem_cons_of_mem _ b1)
        have : b = a := by omega
        exact hd.1 (this ▸ b1)
    exact hi Q h.1 (fun o ho => (h.2 o ho).1)
  have h2 := nodup_lt (N := no) h1 (fun x hx => by
    obtain ⟨b, b1, b2⟩ := List.mem_map.mp hx
    have b2 : b - 1 = x := b2
    have := h.2 b b1
    omega)
  rw [List.length_map] at h2; exact h2
theorem okQ_meQ (h : okQ no Q) (hv : VOK no v) (hno : no < 2147483648) : okQ no (meQ Q v) := by
  by_cases g : v.1 = 2 ∧ oid v ∉ Q
  · unfold meQ
    rw [if_pos g]
    obtain ⟨o, e, o1, o2⟩ := hv g.1
    have eo := oid_of e (by omega)
    refine ⟨?_, fun x hx => ?_⟩
    · rw [List.nodup_append]
      refine ⟨h.1, List.nodup_cons.mpr ⟨List.not_mem_nil, List.nodup_nil⟩, fun a ha b hb e => ?_⟩
      rw [List.mem_singleton.mp hb] at e
      exact g.2 (e ▸ ha)
    · rcases List.mem_append.mp hx with q | q
      · exact h.2 x q
      · rw [List.mem_singleton.mp q, eo]; exact ⟨o1, o2⟩
  · unfold meQ
    rw [if_neg g]; exact h
theorem okQ_cmQ {co : List vaL} (hno : no < 2147483648) (hv : ∀ w, w ∈ co → VOK no w) (h : okQ no Q) : ∀ t, okQ no (cmQ Q co t) := by
  intro t
  induction t with
  | zero => exact h
  | succ t ih =>
    show okQ no (match co[t]? with | some v => meQ (cmQ Q co t) v | none => cmQ Q co t)
    cases e : co[t]? with
    | none => exact ih
    | some v => exact okQ_meQ ih (hv v (List.mem_of_getElem? e)) hno
theorem cmQ_succ {co : List vaL} {t : Nat} (h : co[t]? = some v) : cmQ Q co (t + 1) = meQ (cmQ Q co t) v := by
  show (match co[t]? with | some v => meQ (cmQ Q co t) v | none => cmQ Q co t) = _
  rw [h]
theorem cmQ_pre {co : List vaL} : ∀ t, preQ Q (cmQ Q co t) := by
  intro t
  induction t with
  | zero => exact .refl
  | succ t ih =>
    show preQ Q (match co[t]? with | some v => meQ (cmQ Q co t) v | none => cmQ Q co t)
    cases e : co[t]? with
    | none => exact ih
    | some v => exact ih.trans meQ_pre
theorem cmQ_mono {co : List vaL} : ∀ (j t : Nat), preQ (cmQ Q co t) (cmQ Q co (t + j)) := by
  intro j
  induction j with
  | zero => intro t; exact .refl
  | succ j ih =>
    intro t
    refine (ih t).trans ?_
    show preQ _ (match co[t + j]? with | some v => meQ (cmQ Q co (t + j)) v | none => cmQ Q co (t + j))
    cases e : co[t + j]? with
    | none => exact .refl
    | some v => exact meQ_pre
theorem bfQ_succ {k o : Nat} (h : (bfQ hp Q k)[k]? = some o) : bfQ hp Q (k + 1) = cmQ (bfQ hp Q k) (hp o).co (hp o).co.length := by
  show (match (bfQ hp Q k)[k]? with | some o => cmQ (bfQ hp Q k) (hp o).co (hp o).co.length | none => bfQ hp Q k) = _
  rw [h]
theorem bfQ_step (k : Nat) : preQ (bfQ hp Q k) (bfQ hp Q (k + 1)) := by
  show preQ _ (match (bfQ hp Q k)[k]? with | some o => cmQ (bfQ hp Q k) (hp o).co (hp o).co.length | none => bfQ hp Q k)
  cases e : (bfQ hp Q k)[k]? with
  | none => exact .refl
  | some o => exact cmQ_pre _
theorem bfQ_mono : ∀ (j k : Nat), preQ (bfQ hp Q k) (bfQ hp Q (k + j)) := by
  intro j
  induction j with
  | zero => intro k; exact .refl
  | succ j ih => intro k; exact (ih k).trans (bfQ_step _)
theorem okQ_bfQ (hno : no < 2147483648) (hH : HOK hp no) (h : okQ no Q) : ∀ k, okQ no (bfQ hp Q k) := by
  intro k
  induction k with
  | zero => exact h
  | succ k ih =>
    show okQ no (match (bfQ hp Q k)[k]? with | some o => cmQ (bfQ hp Q k) (hp o).co (hp o).co.length | none => bfQ hp Q k)
    cases e : (bfQ hp Q k)[k]? with
    | none => exact ih
    | some o =>
      obtain ⟨o1, o2⟩ := ih.2 o (List.mem_of_getElem? e)
      exact okQ_cmQ hno (fun w hw => (hH o o1 o2 w hw).mono (by omega)) ih _
theorem okQ_stQ (hno : no < 2147483648) : ∀ n, (∀ k, k < n → VOK no (sv k)) → okQ no (stQ sv n) := by
  intro n
  induction n with
  | zero => intro _; exact ⟨List.nodup_nil, fun o ho => by cases ho⟩
  | succ n ih => intro h; exact okQ_meQ (ih (fun k hk => h k (by omega))) (h n (by omega)) hno
theorem stQ_mono : ∀ (j k : Nat), preQ (stQ sv k) (stQ sv (k + j)) := by
  intro j
  induction j with
  | zero => intro k; exact .refl
  | succ j ih => intro k; exact (ih k).trans meQ_pre
/-- it comes to its end -/
theorem bf_end (hno : no < 2147483648) (hH : HOK hp no) (h : okQ no Q) : ∃ N, (∀ k, k < N → k < (bfQ hp Q k).length) ∧ (bfQ hp Q N).length = N ∧ N ≤ no := by
  have key : ∀ j k, k + j = no → (∀ k', k' < k → k' < (bfQ hp Q k').length) → ∃ N, (∀ k, k < N → k < (bfQ hp Q k).length) ∧ (bfQ hp Q N).length ≤ N ∧ N ≤ no := by
    intro j
    induction j with
    | zero =>
      intro k hk hp'
      exact ⟨k, hp', by have := (okQ_bfQ hno hH h k).len; omega, by omega⟩
    | succ j ih =>
      intro k hk hp'
      by_cases q : k < (bfQ hp Q k).length
      · exact ih (k + 1) (by omega) (fun k' hk' => by
          by_cases e : k' = k
          · rw [e]; exact q
          · exact hp' k' (by omega))
      · exact ⟨k, hp', by omega, by omega⟩
  obtain ⟨N, h1, h2, h3⟩ := key no 0 (by omega) (fun k hk => by omega)
  refine ⟨N, h1, ?_, h3⟩
  cases N with
  | zero => omega
  | succ N =>
    have a := h1 N (by omega)
    have b := (bfQ_step (hp := hp) (Q := Q) N).len
    omega
/-- all that is met is reached, and all that is reached is met -/
theorem stQ_in {o : Nat} : ∀ n, o ∈ stQ sv n → ∃ k, k < n ∧ (sv k).1 = 2 ∧ o = oid (sv k) := by
  intro n
  induction n with
  | zero => intro h; cases h
  | succ n ih =>
    intro h
    rcases meQ_in h with g | g
    · obtain ⟨k, k1, k2⟩ := ih g
      exact ⟨k, by omega, k2⟩
    · exact ⟨n, by omega, g⟩
theorem cmQ_in {co : List vaL} {o : Nat} : ∀ t, o ∈ cmQ Q co t → o ∈ Q ∨ ∃ w, w ∈ co ∧ w.1 = 2 ∧ o = oid w := by
  intro t
  induction t with
  | zero => intro h; exact .inl h
  | succ t ih =>
    intro h
    have h : o ∈ (match co[t]? with | some v => meQ (cmQ Q co t) v | none => cmQ Q co t) := h
    cases e : co[t]? with
    | none => rw [e] at h; exact ih h
    | some v =>
      rw [e] at h
      rcases meQ_in h with g | g
      · exact ih g
      · exact .inr ⟨v, List.mem_of_getElem? e, g⟩
theorem cmQ_all {co : List vaL} {w : vaL} : ∀ t j, j < t → co[j]? = some w → w.1 = 2 → oid w ∈ cmQ Q co t := by
  intro t
  induction t with
  | zero => intro j hj; omega
  | succ t ih =>
    intro j hj he hw
    by_cases q : j = t
    · subst q
      rw [cmQ_succ he]; exact meQ_mem hw
    · show oid w ∈ (match co[t]? with | some v => meQ (cmQ Q co t) v | none => cmQ Q co t)
      have := ih j (by omega) he hw
      cases co[t]? with
      | none => exact this
      | some v => exact meQ_pre.mem this
theorem alQ_succ {k o : Nat} (h : Q[k]? = some o) : alQ hp wd Q (k + 1) = pgA wd (alQ hp wd Q k) (hp o).gi (szO (hp o)) := by
  show (match Q[k]? with | some o => pgA wd (alQ hp wd Q k) (hp o).gi (szO (hp o)) | none => alQ hp wd Q k) = _
  rw [h]
theorem alQ_pre (h : preQ Q Q') : ∀ k, k ≤ Q.length → alQ hp wd Q' k = alQ hp wd Q k := by
  intro k
  induction k with
  | zero => intro _; rfl
  | succ k ih =>
    intro hk
    have e : Q[k]? = some (Q[k]'(by omega)) := List.getElem?_eq_getElem (by omega)
    rw [alQ_succ e, alQ_succ (h.at e), ih (by omega)]
theorem pgA_le {A : alD} {r sz : Nat} : A.2 ≤ (pgA wd A r sz).2 ∧ (pgA wd A r sz).2 ≤ A.2 + 1 := by
  unfold pgA
  by_cases h : (A.1 r).2.1 = 0 ∨ wd < (A.1 r).2.2 + sz
  · rw [if_pos h]; exact ⟨Nat.le_succ _, Nat.le_refl _⟩
  · rw [if_neg h]; exact ⟨Nat.le_refl _, Nat.le_succ _⟩
theorem alQ_mono : ∀ (j k : Nat), (alQ hp wd Q k).2 ≤ (alQ hp wd Q (k + j)).2 := by
  intro j
  induction j with
  | zero => intro k; exact Nat.le_refl _
  | succ j ih =>
    intro k
    refine Nat.le_trans (ih k) ?_
    show _ ≤ (match Q[k + j]? with | some o => pgA wd (alQ hp wd Q (k + j)) (hp o).gi (szO (hp o)) | none => alQ hp wd Q (k + j)).2
    cases Q[k + j]? with
    | none => exact Nat.le_refl _
    | some o => exact pgA_le.1
end BFS
