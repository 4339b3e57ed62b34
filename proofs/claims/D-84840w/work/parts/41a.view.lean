/-! THE PROGRAM THAT IS READ, plainly -/
/-- functions: how many (main is behind them), parameters, first parts, first variables, first fns; parts: kind, start, kids, what is in scope, value, first lexeme, where the model has a call's parts; the variables of fns -/
abbrev pgD : Type := (Nat × (Nat → Nat) × (Nat → Nat) × (Nat → Nat) × (Nat → Nat)) × (Nat → Nat × Nat × List Nat × List Nat × Nat × Nat × Nat) × (Nat → Nat)
def pgD.fc (D : pgD) : Nat := D.1.1
def pgD.bk (D : pgD) : Nat → Nat := D.1.2.1
def pgD.bP (D : pgD) : Nat → Nat := D.1.2.2.1
def pgD.tV (D : pgD) : Nat → Nat := D.1.2.2.2.1
def pgD.bF (D : pgD) : Nat → Nat := D.1.2.2.2.2
def pgD.K (D : pgD) (p : Nat) : Nat := (D.2.1 p).1
def pgD.st (D : pgD) (p : Nat) : Nat := (D.2.1 p).2.1
def pgD.kd (D : pgD) (p : Nat) : List Nat := (D.2.1 p).2.2.1
def pgD.sl (D : pgD) (p : Nat) : List Nat := (D.2.1 p).2.2.2.1
def pgD.vl (D : pgD) (p : Nat) : Nat := (D.2.1 p).2.2.2.2.1
def pgD.lx (D : pgD) (p : Nat) : Nat := (D.2.1 p).2.2.2.2.2.1
def pgD.gb (D : pgD) (p : Nat) : Nat := (D.2.1 p).2.2.2.2.2.2
def pgD.gv (D : pgD) (h : Nat) : Nat := D.2.2 h
/-- parts that stand side by side, from s up to p -/
def contN (st : Nat → Nat) : Nat → List Nat → Nat → Prop
  | s, [], p => s = p
  | s, c :: r, p => st c = s ∧ s ≤ c ∧ c < p ∧ contN st (c + 1) r p
/-- what a part's kid has in scope besides -/
def pgD.sn (D : pgD) (p w : Nat) : List Nat := if D.K p = 17 then [D.gv (D.vl p)] else if D.K p = 19 ∧ w = 1 then [D.vl p] else if D.K p = 20 ∧ w = 2 then [D.vl p + 1, D.vl p] else []
/-- which variables a part binds -/
def pgD.bd (D : pgD) (p : Nat) : List Nat := if D.K p = 17 then [D.gv (D.vl p)] else if D.K p = 19 then [D.vl p] else if D.K p = 20 then [D.vl p, D.vl p + 1] else []
/-- a part of a function -/
def PFp (D : pgD) (m f p : Nat) : Prop :=
  (D.K p ≤ 20 ∧ D.lx p < m ∧ D.bP f ≤ D.st p ∧ D.st p ≤ p) ∧ contN D.st (D.st p) (D.kd p) p ∧
  (D.K p ≠ 3 → (D.kd p).length = ari (D.K p)) ∧ (D.K p = 3 → 1 ≤ (D.kd p).length ∧ D.vl p ≤ f ∧ D.vl p < D.fc ∧ (D.kd p).length = D.bk (D.vl p)) ∧
  (D.K p = 2 → D.vl p ∈ D.sl p) ∧ (∀ w c : Nat, (D.kd p)[w]? = some c → D.sl c = D.sn p w ++ D.sl p) ∧
  (D.K p = 17 → D.bF f ≤ D.vl p ∧ D.vl p < D.bF (f + 1)) ∧ (∀ v, v ∈ D.bd p → D.tV f + D.bk f ≤ v ∧ v < D.tV (f + 1))
/-- a function -/
def PFf (D : pgD) (m f : Nat) : Prop :=
  (D.bP f < D.bP (f + 1) ∧ D.tV f + D.bk f ≤ D.tV (f + 1) ∧ D.bF f ≤ D.bF (f + 1) ∧ D.bk f ≤ 5) ∧ (D.st (D.bP (f + 1) - 1) = D.bP f ∧ D.sl (D.bP (f + 1) - 1) = pls (D.tV f) (D.bk f)) ∧
  (∀ p, D.bP f ≤ p → p < D.bP (f + 1) → PFp D m f p) ∧
  (∀ p, D.bP f ≤ p → p + 1 < D.bP (f + 1) → ∃ q w : Nat, p < q ∧ q < D.bP (f + 1) ∧ (D.kd q)[w]? = some p) ∧
  (∀ h, D.bF f ≤ h → h < D.bF (f + 1) → ∃ p, D.bP f ≤ p ∧ p < D.bP (f + 1) ∧ D.K p = 17 ∧ D.vl p = h) ∧
  (∀ v, D.tV f + D.bk f ≤ v → v < D.tV (f + 1) → ∃ p, D.bP f ≤ p ∧ p < D.bP (f + 1) ∧ v ∈ D.bd p) ∧
  (∀ p q v, D.bP f ≤ p → p < D.bP (f + 1) → D.bP f ≤ q → q < D.bP (f + 1) → v ∈ D.bd p → v ∈ D.bd q → p = q)
/-- the whole -/
def PGF (D : pgD) (m : Nat) : Prop :=
  (D.fc ≤ 20 ∧ m ≤ 3000 ∧ D.bP (D.fc + 1) ≤ 4001 ∧ D.tV (D.fc + 1) ≤ 3000 ∧ 3 * D.bF (D.fc + 1) ≤ m) ∧ (D.bP 0 = 0 ∧ D.tV 0 = 0 ∧ D.bF 0 = 0) ∧ ∀ f, f ≤ D.fc → PFf D m f
/-- what both have of a part -/
def PGp (D : pgD) (σ τ : tvS) (p : Nat) : Prop :=
  (rd σ 16 p = i32 (D.K p : Int) ∧ rd τ 151 p = i32 (mKd (D.K p) : Int) ∧ rd σ 17 p = i32 (D.lx p : Int) ∧ rd τ 152 p = i32 (D.lx p : Int) ∧ rd σ 26 p = i32 (D.st p : Int) ∧ rd τ 161 p = i32 (D.st p : Int) ∧ rd τ 159 p = rd σ 24 p) ∧
  (D.K p ≠ 3 → ∀ w, w < 3 → rd σ (20 + w) p = kid (D.kd p) w ∧ rd τ (154 + w) p = kid (D.kd p) w) ∧
  (D.K p = 3 → rd σ 20 p = kid (D.kd p) 0 ∧ (∀ w c : Nat, (D.kd p)[w]? = some c → rd σ 23 c = kid (D.kd p) (w + 1)) ∧ rd τ 162 p = i32 (D.gb p : Int) ∧ rd τ 163 p = i32 ((D.kd p).length : Int) ∧ D.gb p + (D.kd p).length ≤ 6000 ∧ ∀ w c : Nat, (D.kd p)[w]? = some c → rd τ 164 (D.gb p + w) = i32 (c : Int)) ∧
  (∀ w c : Nat, (D.kd p)[w]? = some c → rd σ 24 c = i32 (p : Int) ∧ rd σ 25 c = i32 (rol (D.K p) w : Int)) ∧
  (D.K p = 2 ∨ D.K p = 3 ∨ D.K p = 19 ∨ D.K p = 20 → rd σ 27 p = i32 (D.vl p : Int) ∧ rd τ 157 p = i32 (D.vl p : Int)) ∧
  (D.K p = 17 → rd σ 27 p = i32 (D.vl p : Int) ∧ rd σ 36 (D.vl p) = i32 (D.gv (D.vl p) : Int) ∧ rd τ 157 p = i32 (D.gv (D.vl p) : Int) ∧ rd σ 35 (D.vl p) = i32 (p : Int)) ∧
  (D.K p = 5 → rd τ 157 p = i32 14) ∧ (D.K p = 6 → rd τ 157 p = i32 15)
/-- of a function -/
def PGf (D : pgD) (σ τ : tvS) (f : Nat) : Prop :=
  (rd σ 44 f = i32 (D.bk f : Int) ∧ rd σ 45 f = i32 (D.tV f : Int) ∧ rd σ 46 f = i32 (D.bP f : Int) ∧ rd σ 47 f = i32 (D.bP (f + 1) : Int) ∧ rd σ 48 f = i32 (D.bF f : Int) ∧ rd σ 49 f = i32 (D.bF (f + 1) : Int)) ∧
  (rd τ 140 f = i32 (D.bk f : Int) ∧ rd τ 141 f = i32 (D.tV f : Int) ∧ rd τ 142 f = i32 ((D.bP (f + 1) - 1 : Nat) : Int) ∧ rd τ 143 f = i32 (D.bP f : Int) ∧ rd τ 143 (f + 1) = i32 (D.bP (f + 1) : Int) ∧ rd τ 144 f = i32 (D.tV f : Int) ∧ rd τ 144 (f + 1) = i32 (D.tV (f + 1) : Int)) ∧
  (rd σ 24 (D.bP (f + 1) - 1) = i32 (-1) ∧ rd σ 25 (D.bP (f + 1) - 1) = i32 11)
def PGR (D : pgD) (σ τ : tvS) : Prop := (∀ f, f ≤ D.fc → PGf D σ τ f) ∧ ∀ p, p < D.bP (D.fc + 1) → PGp D σ τ p
/-- where the program lies -/
def prC : List Nat := [16, 17, 20, 21, 22, 23, 24, 25, 26, 27, 35, 36, 44, 45, 46, 47, 48, 49]
def prM : List Nat := [140, 141, 142, 143, 144, 151, 152, 154, 155, 156, 157, 159, 161, 162, 163, 164]
theorem PGR.to {D : pgD} {σ τ σ' τ' : tvS} (h : PGR D σ τ) (hc : ∀ j, inL prC j = true → ∀ i, rd σ' j i = rd σ j i) (hm : ∀ j, inL prM j = true → ∀ i, rd τ' j i = rd τ j i) : PGR D σ' τ' := by
  obtain ⟨h1, h2⟩ := h
  refine ⟨fun f hf => ?_, fun p hp => ?_⟩
  · have := h1 f hf
    unfold PGf at this ⊢
    rw [hc 44 rfl, hc 45 rfl, hc 46 rfl, hc 47 rfl, hc 48 rfl, hc 49 rfl, hm 140 rfl, hm 141 rfl, hm 142 rfl, hm 143 rfl, hm 143 rfl, hm 144 rfl, hm 144 rfl, hc 24 rfl, hc 25 rfl]
    exact this
  · obtain ⟨a1, a2, a3, a4, a5, a6, a7, a8⟩ := h2 p hp
    refine ⟨by rw [hc 16 rfl, hc 17 rfl, hc 26 rfl, hc 24 rfl, hm 151 rfl, hm 152 rfl, hm 161 rfl, hm 159 rfl]; exact a1, fun k w hw => ?_, fun k => ?_, fun w c hw => by rw [hc 24 rfl, hc 25 rfl]; exact a4 w c hw, fun k => by rw [hc 27 rfl, hm 157 rfl]; exact a5 k, fun k => by rw [hc 27 rfl, hc 36 rfl, hc 35 rfl, hm 157 rfl]; exact a6 k, fun k => by rw [hm 157 rfl]; exact a7 k, fun k => by rw [hm 157 rfl]; exact a8 k⟩
    · have e : w = 0 ∨ w = 1 ∨ w = 2 := by omega
      have := a2 k w hw
      rcases e with e | e | e <;> subst e
      · rw [hc 20 rfl, hm 154 rfl]; exact this
      · rw [hc 21 rfl, hm 155 rfl]; exact this
      · rw [hc 22 rfl, hm 156 rfl]; exact this
    · obtain ⟨b1, b2, b3, b4, b5, b6⟩ := a3 k
      exact ⟨by rw [hc 20 rfl]; exact b1, fun w c hw => by rw [hc 23 rfl]; exact b2 w c hw, by rw [hm 162 rfl]; exact b3, by rw [hm 163 rfl]; exact b4, b5, fun w c hw => by rw [hm 164 rfl]; exact b6 w c hw⟩
theorem inL_off {S S' : List Nat} (h : (S.all fun j => !inL S' j) = true) : ∀ j, inL S j = true → inL S' j = false := by
  intro j hj
  have : ∃ k, k ∈ S ∧ j = k := by
    clear h
    induction S with
    | nil => cases hj
    | cons a r ih =>
      have hj : (Nat.beq j a || inL r j) = true := hj
      rw [Bool.or_eq_true] at hj
      rcases hj with e | e
      · exact ⟨a, List.mem_cons_self, Nat.eq_of_beq_eq_true e⟩
      · obtain ⟨k, k1, k2⟩ := ih e
        exact ⟨k, List.mem_cons_of_mem _ k1, k2⟩
  obtain ⟨k, k1, k2⟩ := this
  have := List.all_eq_true.mp h k k1
  rw [k2]
  cases e : inL S' k with
  | false => rfl
  | true => rw [e] at this; cases this
theorem PGR.fr {D : pgD} {σ τ σ' τ' : tvS} {S T F S' F' : List Nat} (h : PGR D σ τ) (w : frT S T F σ σ') (w' : frM S' F' τ τ') (hS : (prC.all fun j => !inL (50 :: S) j) = true) (hS' : (prM.all fun j => !inL (123 :: S') j) = true) : PGR D σ' τ' :=
  h.to (fun j hj i => w.rd (j := j) (inL_off hS j hj) i) (fun j hj i => w'.rd (j := j) (inL_off hS' j hj) i)
