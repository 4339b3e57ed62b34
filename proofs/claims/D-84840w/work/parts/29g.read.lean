/-! READING: what fns capture -/
/-- variables of a scope l that stand in k parts from p0 on, each once, in their order -/
def capW (σ : tvS) (p0 : Nat) : Nat → List Nat → List Nat
  | 0, _ => []
  | k + 1, l => if rd σ 16 (p0 + k) = i32 2 ∧ ix (rd σ 27 (p0 + k)) ∈ l ∧ ix (rd σ 27 (p0 + k)) ∉ capW σ p0 k l then capW σ p0 k l ++ [ix (rd σ 27 (p0 + k))] else capW σ p0 k l
/-- fns that are opn: their number, the parts ahead of them, what was in scope -/
def OPN (σ : tvS) : List (Nat × Nat × List Nat) → Int32 → Prop
  | [], x => x = i32 (-1)
  | e :: r, x => x = i32 e.1 ∧ e.1 < 4101 ∧ OPN σ r (rd σ 34 e.1)
def ownF : List (Nat × Nat × List Nat) → Nat → Int32
  | [], _ => i32 (-1)
  | e :: r, v => if v ∈ e.2.2 then ownF r v else i32 e.1
def sufF : List Nat → List (Nat × Nat × List Nat) → Prop
  | _, [] => True
  | sc, e :: r => (∃ u, sc = u ++ e.2.2) ∧ sufF e.2.2 r
section CAP
variable {L : Nat} {xs : Nat → Int32} {σ σ' : tvS}
theorem capW.congr {p0 : Nat} {l : List Nat} : ∀ k, (∀ i, i < p0 + k → rd σ' 16 i = rd σ 16 i ∧ rd σ' 27 i = rd σ 27 i) → capW σ' p0 k l = capW σ p0 k l := by
  intro k
  induction k with
  | zero => intro _; rfl
  | succ k ih =>
    intro h
    obtain ⟨h1, h2⟩ := h (p0 + k) (by omega)
    unfold capW
    rw [h1, h2, ih (fun i hi => h i (by omega))]
theorem capL.congr : ∀ (l : List (Nat × Nat)) (x : Int32), capL σ l x → (∀ q, q ∈ l → rd σ' 40 q.1 = rd σ 40 q.1 ∧ rd σ' 41 q.1 = rd σ 41 q.1) → capL σ' l x := by
  intro l
  induction l with
  | nil => intro x h _; exact h
  | cons q r ih =>
    intro x h hc
    obtain ⟨c, v⟩ := q
    obtain ⟨h1, h2, h3⟩ := h
    obtain ⟨c1, c2⟩ := hc (c, v) List.mem_cons_self
    refine ⟨h1, by rw [c1]; exact h2, ?_⟩
    rw [c2]
    exact ih _ h3 (fun u hu => hc u (List.mem_cons_of_mem _ hu))
/-- a chain, with one more at its end -/
theorem capL.snoc {c v : Nat} (hv : rd σ' 40 c = i32 v) (hn : rd σ' 41 c = i32 (-1)) : ∀ (l : List (Nat × Nat)) (x : Int32), l ≠ [] → capL σ l x → ((l.map Prod.fst).Nodup) → (∀ q, q ∈ l → rd σ' 40 q.1 = rd σ 40 q.1) → (∀ q, q ∈ l → l.getLast? ≠ some q → rd σ' 41 q.1 = rd σ 41 q.1) → (∀ q, l.getLast? = some q → rd σ' 41 q.1 = i32 c) → capL σ' (l ++ [(c, v)]) x := by
  intro l
  induction l with
  | nil => intro x h; exact absurd rfl h
  | cons q r ih =>
    intro x _ h hd h1 h2 h3
    obtain ⟨a, b⟩ := q
    obtain ⟨g1, g2, g3⟩ := h
    refine ⟨g1, by rw [h1 (a, b) List.mem_cons_self]; exact g2, ?_⟩
    by_cases hr : r = []
    · subst hr
      rw [h3 (a, b) rfl]
      exact ⟨rfl, hv, hn⟩
    · have hl : ((a, b) :: r).getLast? = r.getLast? := by
        cases r with
        | nil => exact absurd rfl hr
        | cons y t => simp [List.getLast?_cons_cons]
      have hne : ((a, b) :: r).getLast? ≠ some (a, b) := by
        rw [hl]
        intro e
        have := List.mem_of_getLast? e
        rw [List.map_cons, List.nodup_cons] at hd
        exact hd.1 (List.mem_map_of_mem (f := Prod.fst) this)
      rw [h2 (a, b) List.mem_cons_self hne]
      rw [List.map_cons, List.nodup_cons] at hd
      refine ih _ hr g3 hd.2 (fun q hq => h1 q (List.mem_cons_of_mem _ hq)) (fun q hq hq2 => h2 q (List.mem_cons_of_mem _ hq) (by rw [hl]; exact hq2)) (fun q hq => h3 q (by rw [hl]; exact hq))
/-- which of those that a fn captures -/
theorem capOf_loop {N0 : Nat} (hN : N0 = ln σ 40) (hN1 : ln σ 41 = ln σ 40) (hN2 : ln σ 40 ≤ 65536) (d : Nat) (v : Nat) (hv : v < 4101) (v1 : Value) : ∀ (l : List (Nat × Nat)) (x : Int32) (k : Nat), k + l.length ≤ 100 → capL σ l x → (∀ q, q ∈ l → q.1 < N0 ∧ q.2 < 4101) →
    ∃ y : Int32, rn L xs (d + 1) 74 10 [.ref 15, v1, .int (i32 v), .int (i32 k), .int x] [] σ = some (.inl (some (.int y)), σ) ∧ (pv_c2 .eq y (i32 (-1)) = decide (v ∉ l.map Prod.snd)) := by
  intro l
  induction l with
  | nil =>
    intro x k _ h _
    have h : x = i32 (-1) := h
    refine ⟨i32 (-1), ?_, ?_⟩
    · rw [e74_10, h, i32_raw, c2_eq (by omega) (by omega) (by omega) (by omega), c_t (by omega), e74_44]
      rfl
    · rw [c2_eq (by omega) (by omega) (by omega) (by omega)]
      simp
  | cons q r ih =>
    intro x k hk h hb
    obtain ⟨c, u⟩ := q
    obtain ⟨g1, g2, g3⟩ := h
    obtain ⟨b1, b2⟩ := hb (c, u) List.mem_cons_self
    have b1 : c < N0 := b1
    have b2 : u < 4101 := b2
    have hk : k + (r.length + 1) ≤ 100 := hk
    rw [e74_10, g1, i32_raw, c2_eq (by omega) (by omega) (by omega) (by omega), c_f (by omega), c_in (by omega) (by omega) (by omega), i32_ixn (by omega), g2, c2_ne (by omega) (by omega) (by omega) (by omega)]
    by_cases e : u = v
    · rw [c_f (by omega)]
      refine ⟨i32 k, rfl, ?_⟩
      rw [c2_eq (by omega) (by omega) (by omega) (by omega), decide_eq_false (by omega), decide_eq_false]
      intro q
      exact q (by rw [List.map_cons, e]; exact List.mem_cons_self)
    · rw [c_t (by omega), e74_29, c_in (by omega) (by omega) (by omega), i32_ixn (by omega), i32_n1]
      obtain ⟨y, h1, h2⟩ := ih (rd σ 41 c) (k + 1) (by omega) g3 (fun q hq => hb q (List.mem_cons_of_mem _ hq))
      refine ⟨y, h1, ?_⟩
      rw [h2]
      refine decide_eq_decide.mpr ⟨fun p q => ?_, fun p q => p ?_⟩
      · rw [List.map_cons, List.mem_cons] at q
        rcases q with q | q
        · exact e q.symm
        · exact p q
      · rw [List.map_cons]; exact List.mem_cons_of_mem _ q
end CAP
