/-! CODE: what is known while code is made -/
def sumF (w : Nat → Nat) (s : Nat) : Nat → Nat
  | 0 => 0
  | n + 1 => sumF w s n + w (s + n)
theorem sumF_add {w : Nat → Nat} : ∀ (b s a : Nat), sumF w s (a + b) = sumF w s a + sumF w (s + a) b := by
  intro b
  induction b with
  | zero => intro s a; rfl
  | succ b ih =>
    intro s a
    show sumF w s (a + b) + w (s + (a + b)) = sumF w s a + (sumF w (s + a) b + w (s + a + b))
    rw [ih s a, show s + (a + b) = s + a + b by omega]; omega
/-- what a part may cost -/
noncomputable def cqF (D : pgD) (rg : rgD) (cd : cdD) (f : Nat) (cf : Int) (q : Nat) : Nat := if cd.fn D q = cf then 59 + (if D.K q = 17 then 45 else 0) + 2 * (ownN rg f q).length else 0
/-- what is known while code is made -/
def CEN (D : pgD) (G : sgD) (rg : rgD) (cd : cdD) (m N : Nat) (c : Nat → Nat) (cp : Nat → List (Nat × Nat)) (dp : Nat → Nat) (σ0 τ0 : tvS) : Prop :=
  PGF D m ∧ PGR D σ0 τ0 ∧ HTS D cd.hg cd.sl ∧ (∀ g, g ≤ D.fc → CGf D G rg N c σ0 g) ∧ RGC D m cp σ0 ∧
  ((∀ v, v < D.tV (D.fc + 1) → rd σ0 31 v = i32 (cd.vo v) ∧ -1 ≤ cd.vo v ∧ cd.vo v < 4101) ∧ (∀ p, p < D.bP (D.fc + 1) → (D.K p = 0 → rd σ0 27 p = cd.vw p) ∧ (D.K p = 17 → cd.vo (D.gv (D.vl p)) = (D.vl p : Int)) ∧ (D.K p = 19 → cd.vo (D.vl p) = cd.fn D p) ∧ (D.K p = 20 → cd.vo (D.vl p) = cd.fn D p ∧ cd.vo (D.vl p + 1) = cd.fn D p))) ∧
  (∀ j, j < D.bF (D.fc + 1) → cd.cg j = (cp j).map Prod.snd ∧ rd σ0 39 j = i32 ((cp j).length : Int)) ∧ (∀ p, p < D.bP (D.fc + 1) → dp p < 100) ∧ (∀ f q w k : Nat, f ≤ D.fc → D.bP f ≤ q → q < D.bP (f + 1) → (D.kd q)[w]? = some k → dp k = dp q + 1) ∧
  (∀ p v, p < D.bP (D.fc + 1) → v ∈ D.sl p → v < D.tV (D.fc + 1) ∧ (cd.vo v ≠ cd.fn D p → 0 ≤ cd.fn D p ∧ cd.fn D p < (D.bF (D.fc + 1) : Int)) ∧ (D.K p = 2 → v = D.vl p → cd.vo v ≠ cd.fn D p → v ∈ cd.cg (cd.fn D p).toNat)) ∧
  (∀ p v, p < D.bP (D.fc + 1) → D.K p = 17 → v ∈ cd.cg (D.vl p) → v ∈ D.sl p ∧ (cd.vo v ≠ cd.fn D p → v ∈ cd.cg (cd.fn D p).toNat))
section CODEENV
variable {L : Nat} {xs : Nat → Int32} {σ σ' σ0 τ0 : tvS} {K1 K2 N f a : Nat} {C : tG} {c : Nat → Nat} {cf : Int} {D : pgD} {G : sgD} {rg : rgD} {cd : cdD} {m : Nat} {cp : Nat → List (Nat × Nat)} {dp : Nat → Nat}
/-- which of the caught ones -/
theorem capof_loop {v : Nat} (hv : v < 4101) (h40 : ln σ 41 = ln σ 40 ∧ ln σ 40 ≤ 65536) (v1 : Value) (d : Nat) : ∀ (l : List (Nat × Nat)) (k : Nat) (x : Int32), capL σ l x → (∀ e, e ∈ l → e.1 < ln σ 40 ∧ e.2 < 4101) → v ∈ l.map Prod.snd → k + l.length < 100000 →
    rn L xs (d + 1) 74 10 [.ref 15, v1, .int (i32 (v : Int)), .int (i32 (k : Int)), .int x] [] σ = some (.inl (some (.int (i32 ((k + (l.map Prod.snd).idxOf v : Nat) : Int)))), σ) := by
  intro l
  induction l with
  | nil => intro k x _ _ h; cases h
  | cons e l ih =>
    intro k x hc hl hv' hk
    obtain ⟨c1, c2, c3⟩ := hc
    obtain ⟨l1, l2⟩ := hl e List.mem_cons_self
    have hk : k + (l.length + 1) < 100000 := hk
    rw [e74_10, c1, i32_raw, c2_eq (by omega) (by omega) (by omega) (by omega), c_f (by omega), c_in (by omega) (by omega) (by omega), i32_ixn (by omega), c2, c2_ne (by omega) (by omega) (by omega) (by omega)]
    by_cases q : e.2 = v
    · rw [c_f (by omega)]
      have : ((e :: l).map Prod.snd).idxOf v = 0 := by
        rw [List.map_cons, List.idxOf_cons, q]; simp
      rw [this]; rfl
    · rw [c_t (by omega), e74_29, h40.1, c_in (by omega) (by omega) (by omega), i32_up, i32_ixn (by omega)]
      have hm : v ∈ l.map Prod.snd := by
        rw [List.map_cons] at hv'
        rcases List.mem_cons.mp hv' with h | h
        · exact absurd h.symm q
        · exact h
      rw [ih (k + 1) (rd σ 41 e.1) c3 (fun e' he => hl e' (List.mem_cons_of_mem _ he)) hm (by omega)]
      have : ((e :: l).map Prod.snd).idxOf v = (l.map Prod.snd).idxOf v + 1 := by
        rw [List.map_cons, List.idxOf_cons]
        have : (Prod.snd e == v) = false := by simpa using q
        rw [this]; rfl
      rw [this, show k + 1 + (l.map Prod.snd).idxOf v = k + ((l.map Prod.snd).idxOf v + 1) by omega]
end CODEENV
