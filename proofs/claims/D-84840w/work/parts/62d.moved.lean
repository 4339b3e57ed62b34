/-! COLLECTIONS, COMPONENT: an object is moved -/
/-- a place in a page of a region -/
def PLa (pg : Nat → List Nat) (s : cSt) (wd : Nat) (x : obD) (a : Nat) : Prop := ∃ p, p ∈ pg x.gi ∧ p * wd ≤ a ∧ a + szO x ≤ p * wd + (if (pg x.gi).getLast? = some p then (s.R x.gi).2.2 else wd)
/-- no word is told twice -/
def DJo (hp : Nat → obD) (pl : Nat → Nat) (P : Nat → Prop) : Prop := ∀ o o', P o → P o' → o ≠ o' → pl o + szO (hp o) ≤ pl o' ∨ pl o' + szO (hp o') ≤ pl o
/-- in the midst of a collection: Q is met, k objects and t words are seen through -/
def GCI (D : pgD) (rg : rgD) (cd : cdD) (X : dyD) (n : Nat) (pl np : Nat → Nat) (Q : List Nat) (k t : Nat) (s : cSt) (pg : Nat → List Nat) (fl ex : List Nat) (nr wd pgs : Nat) (σ : tvS) : Prop :=
  CPo s pg fl ex nr wd pgs σ ∧ rd σ 103 26 = i32 (Q.length : Int) ∧ (okQ X.no Q ∧ ∀ o, o ∈ Q → RCO X n o) ∧
  (∀ o, RCO X n o → (∃ p, p ∈ ex ∧ p * wd ≤ pl o ∧ pl o + szO (X.hp o) ≤ p * wd + wd ∧ rd σ 107 p = i32 ((X.hp o).gi : Int)) ∧ (o ∉ Q → CObw D (fun _ v => cwd pl v) (X.hp o) (pl o) σ)) ∧
  (∀ o, o ∈ Q → rd σ 104 (pl o) = i32 (-1 - (np o : Int))) ∧
  (∀ j o, Q[j]? = some o → rd σ 116 j = i32 (np o : Int) ∧ PLa pg s wd (X.hp o) (np o) ∧ CObw D (fun t' v => if j < k ∨ (j = k ∧ t' < t) then cwd np v else cwd pl v) (X.hp o) (np o) σ ∧ ∀ t' v, (X.hp o).co[t']? = some v → (j < k ∨ (j = k ∧ t' < t)) → v.1 = 2 → oid v ∈ Q) ∧
  DJo X.hp pl (RCO X n) ∧ DJo X.hp np (fun o => o ∈ Q)
/-- what is known of all objects that are reached -/
def GCH (D : pgD) (rg : rgD) (cd : cdD) (X : dyD) (n nr wd : Nat) : Prop := HOK X.hp X.no ∧ X.no ≤ 30000 ∧ ∀ o, RCO X n o → WFo D rg cd (X.hp o) ∧ (X.hp o).gi < nr ∧ szO (X.hp o) ≤ wd ∧ ((X.hp o).kd = 3 → D.vl (X.hp o).pt < D.bF (D.fc + 1))
section MOVED
variable {L : Nat} {xs : Nat → Int32} {σ σ' : tvS} {D : pgD} {rg : rgD} {cd : cdD} {X : dyD} {n nr wd pgs k t o : Nat} {pl np : Nat → Nat} {Q fl ex : List Nat} {s : cSt} {pg : Nat → List Nat}
theorem PLa.page {x : obD} {a : Nat} (h : PLa pg s wd x a) (hu : (s.R x.gi).2.2 ≤ wd) : ∃ p, p ∈ pg x.gi ∧ p * wd ≤ a ∧ a + szO x ≤ p * wd + wd := by
  obtain ⟨p, h1, h2, h3⟩ := h
  refine ⟨p, h1, h2, ?_⟩
  by_cases q : (pg x.gi).getLast? = some p
  · rw [if_pos q] at h3; omega
  · rw [if_neg q] at h3; exact h3
theorem page_le {p : Nat} (h : p < pgs) : p * wd + wd ≤ pgs * wd := by
  have : (p + 1) * wd ≤ pgs * wd := Nat.mul_le_mul_right _ h
  rw [Nat.add_mul, Nat.one_mul] at this
  exact this
theorem pgs_wd (h1 : pgs ≤ 400) (h2 : wd ≤ 128) : pgs * wd ≤ 51200 := Nat.mul_le_mul h1 h2
theorem page_ne {p p' a b x y : Nat} (h : p ≠ p') (h1 : p * wd ≤ a) (h2 : a + x ≤ p * wd + wd) (h3 : p' * wd ≤ b) (h4 : b + y ≤ p' * wd + wd) : a + x ≤ b ∨ b + y ≤ a := by
  by_cases c : p < p'
  · have : p * wd + wd ≤ p' * wd := page_le (wd := wd) c
    left; omega
  · have : p' * wd + wd ≤ p * wd := page_le (wd := wd) (show p' < p by omega)
    right; omega
/-- it is there already -/
theorem moved_old (h : GCI D rg cd X n pl np Q k t s pg fl ex nr wd pgs σ) (hs : ∀ r, r < nr → (s.R r).2.2 ≤ wd) (hH : GCH D rg cd X n nr wd) (ho : o ∈ Q) (v2 v3 v4 v5 : Value) (d : Nat) : rn L xs (d + 1) 233 0 [.ref 103, .int (i32 (pl o : Int)), v2, v3, v4, v5] [] σ = some (.inl (some (.int (i32 (np o : Int)))), σ) := by
  obtain ⟨g1, g2, ⟨g3, g3'⟩, g4, g5, g6, g7, g8⟩ := h
  obtain ⟨_, _, _, ⟨_, _, _, hex⟩, _, f1, f2, f3, f4⟩ := g1
  obtain ⟨⟨p, p1, p2, p3, p4⟩, _⟩ := g4 o (g3' o ho)
  have hpl := page_le (wd := wd) (hex p p1)
  have hpw := pgs_wd f2 f3
  obtain ⟨w, _, _, _⟩ := hH.2.2 o (g3' o ho)
  have hsz := w.sz
  have e := g5 o ho
  obtain ⟨j, j1⟩ := List.mem_iff_getElem?.mp ho
  have hnp : np o < 51200 := by
    obtain ⟨_, hP, _⟩ := g6 j o j1
    obtain ⟨_, hgi, _⟩ := hH.2.2 o (g3' o ho)
    obtain ⟨q, q1, q2, q3⟩ := hP.page (hs _ hgi)
    have := (((‹(∀ r, r < nr → (pg r).Nodup ∧ ∀ p, p ∈ pg r → p < pgs ∧ p ∉ fl ∧ p ∉ ex ∧ ∀ r', r' < nr → p ∈ pg r' → r' = r)›) _ hgi).2 q q1).1
    have := page_le (wd := wd) this
    omega
  have e2 : i32 (-1) - i32 (-1 - (np o : Int)) = i32 (np o : Int) := by rw [i32_sub]; congr 1; omega
  rw [e233_0, c_in (by omega) (by omega) (by omega), i32_ixn (by omega), e, c1_ge (by omega) (by omega), c_f (by omega), c_in (by omega) (by omega) (by omega), i32_raw, e2]
end MOVED
