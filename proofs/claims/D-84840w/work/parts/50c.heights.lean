/-! CODE: where parts begin on the stack, where variables stand -/
/-- how high a part's kid begins -/
def hgw (κ w h : Nat) : Nat := if κ = 17 then 2 else if κ = 18 then h else if κ = 20 then (if w = 2 then h + 2 else h) else h + w
/-- heights of parts, slots of variables -/
def HTS (D : pgD) (hgt sl : Nat → Nat) : Prop :=
  (∀ f, f ≤ D.fc → hgt (D.bP (f + 1) - 1) = D.bk f) ∧ (∀ f q w c : Nat, f ≤ D.fc → D.bP f ≤ q → q < D.bP (f + 1) → (D.kd q)[w]? = some c → hgt c = hgw (D.K q) w (hgt q)) ∧ (∀ f k, f ≤ D.fc → k < D.bk f → sl (D.tV f + k) = k) ∧
  ∀ f p, f ≤ D.fc → D.bP f ≤ p → p < D.bP (f + 1) → (D.K p = 17 → sl (D.gv (D.vl p)) = 1) ∧ (D.K p = 19 → sl (D.vl p) = hgt p) ∧ (D.K p = 20 → sl (D.vl p) = hgt p ∧ sl (D.vl p + 1) = hgt p + 1)
section HEIGHTS
variable {D : pgD} {m : Nat}
/-- kids are of one parent -/
theorem kid_one {σ τ : tvS} (hF : PGF D m) (hR : PGR D σ τ) {f f' q q' w w' c : Nat} (hf : f ≤ D.fc) (hf' : f' ≤ D.fc) (q1 : D.bP f ≤ q) (q2 : q < D.bP (f + 1)) (q1' : D.bP f' ≤ q') (q2' : q' < D.bP (f' + 1)) (h : (D.kd q)[w]? = some c) (h' : (D.kd q')[w']? = some c) : q = q' ∧ w = w' := by
  have hb4 := hF.1
  have u := (hF.up (D.fc + 1 - (f + 1)) (f + 1) (by omega)).1
  have u' := (hF.up (D.fc + 1 - (f' + 1)) (f' + 1) (by omega)).1
  rw [show f + 1 + (D.fc + 1 - (f + 1)) = D.fc + 1 by omega] at u
  rw [show f' + 1 + (D.fc + 1 - (f' + 1)) = D.fc + 1 by omega] at u'
  have e1 := ((hR.2 q (by omega)).2.2.2.1 w c h).1
  have e2 := ((hR.2 q' (by omega)).2.2.2.1 w' c h').1
  rw [e1] at e2
  have e := (i32_inj (by omega) (by omega) (by omega) (by omega)).mp e2
  have e : q = q' := by omega
  subst e
  refine ⟨rfl, ?_⟩
  obtain ⟨z1, z2, z3, z4⟩ := contN.at _ _ _ _ _ ((hF.2.2 f hf).2.2.1 q q1 q2).2.1 h
  obtain ⟨y1, y2, y3, y4⟩ := contN.at _ _ _ _ _ ((hF.2.2 f hf).2.2.1 q q1 q2).2.1 h'
  apply Classical.byContradiction
  intro hn
  by_cases k : w < w'
  · have := y4 w c k h; omega
  · have := z4 w' c (by omega) h'; omega
/-- heights, by a parent of each -/
noncomputable def hgF (D : pgD) (U : Nat → Option (Nat × Nat)) (base : Nat → Nat) : Nat → Nat → Nat
  | 0, _ => 0
  | n + 1, p => match U p with
    | none => base p
    | some e => hgw (D.K e.1) e.2 (hgF D U base n e.1)
theorem hgF_eq {U : Nat → Option (Nat × Nat)} {base : Nat → Nat} {M : Nat} (hU : ∀ p e, U p = some e → p < e.1 ∧ e.1 < M) : ∀ (n k p : Nat), M ≤ p + n → p < M → M ≤ p + k → hgF D U base n p = hgF D U base k p := by
  intro n
  induction n with
  | zero => intro k p h1 h2; omega
  | succ n ih =>
    intro k p h1 h2 h3
    cases k with
    | zero => omega
    | succ k =>
      show (match U p with | none => base p | some e => hgw (D.K e.1) e.2 (hgF D U base n e.1)) = (match U p with | none => base p | some e => hgw (D.K e.1) e.2 (hgF D U base k e.1))
      cases hu : U p with
      | none => rfl
      | some e =>
        obtain ⟨a1, a2⟩ := hU p e hu
        show hgw _ _ (hgF D U base n e.1) = hgw _ _ (hgF D U base k e.1)
        rw [ih k e.1 (by omega) a2 (by omega)]
theorem HTS.ex {σ τ : tvS} (hF : PGF D m) (hR : PGR D σ τ) : ∃ hgt sl : Nat → Nat, HTS D hgt sl := by
  have hb4 := hF.1
  have up : ∀ f, f ≤ D.fc → D.bP (f + 1) ≤ D.bP (D.fc + 1) ∧ D.tV (f + 1) ≤ D.tV (D.fc + 1) := fun f hf => by
    have u := hF.up (D.fc + 1 - (f + 1)) (f + 1) (by omega)
    rw [show f + 1 + (D.fc + 1 - (f + 1)) = D.fc + 1 by omega] at u
    exact ⟨u.1, u.2.1⟩
  have hU : ∀ p : Nat, ∃ o : Option (Nat × Nat), (o = none ∧ ∀ f q w : Nat, f ≤ D.fc → D.bP f ≤ q → q < D.bP (f + 1) → (D.kd q)[w]? ≠ some p) ∨ ∃ e : Nat × Nat, o = some e ∧ ∃ f, f ≤ D.fc ∧ D.bP f ≤ e.1 ∧ e.1 < D.bP (f + 1) ∧ (D.kd e.1)[e.2]? = some p := fun p => by
    by_cases c : ∃ f q w : Nat, f ≤ D.fc ∧ D.bP f ≤ q ∧ q < D.bP (f + 1) ∧ (D.kd q)[w]? = some p
    · obtain ⟨f, q, w, h1, h2, h3, h4⟩ := c
      exact ⟨some (q, w), .inr ⟨(q, w), rfl, f, h1, h2, h3, h4⟩⟩
    · exact ⟨none, .inl ⟨rfl, fun f q w h1 h2 h3 h4 => c ⟨f, q, w, h1, h2, h3, h4⟩⟩⟩
  obtain ⟨U, hU⟩ := Classical.axiomOfChoice hU
  have hbase : ∀ p : Nat, ∃ b : Nat, ∀ f, f ≤ D.fc → p = D.bP (f + 1) - 1 → b = D.bk f := fun p => by
    by_cases c : ∃ f, f ≤ D.fc ∧ p = D.bP (f + 1) - 1
    · obtain ⟨f, c1, c2⟩ := c
      refine ⟨D.bk f, fun f' k1 k2 => ?_⟩
      have l1 := (hF.2.2 f c1).1.1
      have l2 := (hF.2.2 f' k1).1.1
      rw [hF.whose (g := f) (g' := f') (q := p) (by omega) (by omega) (by omega) (by omega) c1 k1]
    · exact ⟨0, fun f k1 k2 => absurd ⟨f, k1, k2⟩ c⟩
  obtain ⟨base, hbase⟩ := Classical.axiomOfChoice hbase
  have hlt : ∀ p e, U p = some e → p < e.1 ∧ e.1 < D.bP (D.fc + 1) := fun p e he => by
    rcases hU p with ⟨k, _⟩ | ⟨e', k, f, f1, f2, f3, f4⟩
    · rw [k] at he; cases he
    · rw [k] at he
      have : e' = e := Option.some.inj he
      subst this
      have := contN.at _ _ _ _ _ ((hF.2.2 f f1).2.2.1 e'.1 f2 f3).2.1 f4
      have := (up f f1).1
      omega
  obtain ⟨hgt, ehg⟩ : ∃ hgt : Nat → Nat, hgt = hgF D U base 4101 := ⟨_, rfl⟩
  have hroot : ∀ f, f ≤ D.fc → hgt (D.bP (f + 1) - 1) = D.bk f := fun f hf => by
    have l1 := (hF.2.2 f hf).1.1
    rw [ehg]
    show (match U (D.bP (f + 1) - 1) with | none => base (D.bP (f + 1) - 1) | some e => hgw (D.K e.1) e.2 (hgF D U base 4100 e.1)) = _
    rcases hU (D.bP (f + 1) - 1) with ⟨k, _⟩ | ⟨e, k, f', f1, f2, f3, f4⟩
    · rw [k]; exact hbase _ f hf rfl
    · exfalso
      have z := contN.at _ _ _ _ _ ((hF.2.2 f' f1).2.2.1 e.1 f2 f3).2.1 f4
      have z2 := ((hF.2.2 f' f1).2.2.1 e.1 f2 f3).1
      have hw := hF.whose (g := f) (g' := f') (q := D.bP (f + 1) - 1) (by omega) (by omega) (by omega) (by omega) hf f1
      subst hw
      omega
  have hkid : ∀ f q w c : Nat, f ≤ D.fc → D.bP f ≤ q → q < D.bP (f + 1) → (D.kd q)[w]? = some c → hgt c = hgw (D.K q) w (hgt q) := fun f q w c hf h1 h2 h3 => by
    rcases hU c with ⟨_, k⟩ | ⟨e, k, f', f1, f2, f3, f4⟩
    · exact absurd h3 (k f q w hf h1 h2)
    · obtain ⟨e1, e2⟩ := kid_one hF hR f1 hf f2 f3 h1 h2 f4 h3
      have hb := (up f hf).1
      rw [ehg]
      show (match U c with | none => base c | some e => hgw (D.K e.1) e.2 (hgF D U base 4100 e.1)) = _
      rw [k]
      show hgw (D.K e.1) e.2 (hgF D U base 4100 e.1) = _
      rw [e1, e2, hgF_eq hlt 4100 4101 q (by omega) (by omega) (by omega)]
  -- slots
  have hSL : ∀ v : Nat, ∃ s : Nat, (∀ f k, f ≤ D.fc → k < D.bk f → v = D.tV f + k → s = k) ∧ ∀ f p, f ≤ D.fc → D.bP f ≤ p → p < D.bP (f + 1) → (D.K p = 17 → v = D.gv (D.vl p) → s = 1) ∧ (D.K p = 19 → v = D.vl p → s = hgt p) ∧ (D.K p = 20 → (v = D.vl p → s = hgt p) ∧ (v = D.vl p + 1 → s = hgt p + 1)) := fun v => by
    have rng : ∀ f p, f ≤ D.fc → D.bP f ≤ p → p < D.bP (f + 1) → v ∈ D.bd p → D.tV f + D.bk f ≤ v ∧ v < D.tV (f + 1) := fun f p h1 h2 h3 h4 => ((hF.2.2 f h1).2.2.1 p h2 h3).2.2.2.2.2.2.2 v h4
    have dis : ∀ f f', f ≤ D.fc → f' ≤ D.fc → D.tV f ≤ v → v < D.tV (f + 1) → D.tV f' ≤ v → v < D.tV (f' + 1) → f = f' := fun f f' h1 h2 h3 h4 h5 h6 => by
      by_cases c : f < f'
      · have := (hF.up (f' - (f + 1)) (f + 1) (by omega)).2.1
        rw [show f + 1 + (f' - (f + 1)) = f' by omega] at this; omega
      · by_cases c' : f' < f
        · have := (hF.up (f - (f' + 1)) (f' + 1) (by omega)).2.1
          rw [show f' + 1 + (f - (f' + 1)) = f by omega] at this; omega
        · omega
    have bd17 : ∀ p, D.K p = 17 → D.bd p = [D.gv (D.vl p)] := fun p h => by unfold pgD.bd; rw [if_pos h]
    have bd19 : ∀ p, D.K p = 19 → D.bd p = [D.vl p] := fun p h => by unfold pgD.bd; rw [if_neg (by omega), if_pos h]
    have bd20 : ∀ p, D.K p = 20 → D.bd p = [D.vl p, D.vl p + 1] := fun p h => by unfold pgD.bd; rw [if_neg (by omega), if_neg (by omega), if_pos h]
    by_cases c1 : ∃ f k, f ≤ D.fc ∧ k < D.bk f ∧ v = D.tV f + k
    · obtain ⟨f, k, h1, h2, h3⟩ := c1
      have hl := (hF.2.2 f h1).1.2.1
      have no : ∀ f' p, f' ≤ D.fc → D.bP f' ≤ p → p < D.bP (f' + 1) → v ∈ D.bd p → False := fun f' p k1 k2 k3 k4 => by
        have r := rng f' p k1 k2 k3 k4
        have e := dis f f' h1 k1 (by omega) (by omega) (by omega) (by omega)
        subst e; omega
      refine ⟨k, fun f' k' k1 k2 k3 => ?_, fun f' p k1 k2 k3 => ⟨fun q e => (no f' p k1 k2 k3 (by rw [bd17 p q, e]; exact List.mem_cons_self)).elim, fun q e => (no f' p k1 k2 k3 (by rw [bd19 p q, e]; exact List.mem_cons_self)).elim, fun q => ⟨fun e => (no f' p k1 k2 k3 (by rw [bd20 p q, e]; exact List.mem_cons_self)).elim, fun e => (no f' p k1 k2 k3 (by rw [bd20 p q, e]; exact List.mem_cons_of_mem _ List.mem_cons_self)).elim⟩⟩⟩
      have hl' := (hF.2.2 f' k1).1.2.1
      have e := dis f f' h1 k1 (by omega) (by omega) (by omega) (by omega)
      subst e; omega
    · by_cases c2 : ∃ f p, f ≤ D.fc ∧ D.bP f ≤ p ∧ p < D.bP (f + 1) ∧ v ∈ D.bd p
      · obtain ⟨f, p, h1, h2, h3, h4⟩ := c2
        have one : ∀ f' p', f' ≤ D.fc → D.bP f' ≤ p' → p' < D.bP (f' + 1) → v ∈ D.bd p' → p' = p := fun f' p' k1 k2 k3 k4 => by
          have r := rng f' p' k1 k2 k3 k4
          have r2 := rng f p h1 h2 h3 h4
          have e := dis f f' h1 k1 (by omega) (by omega) (by omega) (by omega)
          subst e
          exact (hF.2.2 f h1).2.2.2.2.2.2 p' p v k2 k3 h2 h3 k4 h4
        have noP : ∀ f' k, f' ≤ D.fc → k < D.bk f' → v = D.tV f' + k → False := fun f' k k1 k2 k3 => c1 ⟨f', k, k1, k2, k3⟩
        refine ⟨if D.K p = 17 then 1 else if v = D.vl p then hgt p else hgt p + 1, fun f' k k1 k2 k3 => (noP f' k k1 k2 k3).elim, fun f' p' k1 k2 k3 => ⟨fun q e => ?_, fun q e => ?_, fun q => ⟨fun e => ?_, fun e => ?_⟩⟩⟩
        · have := one f' p' k1 k2 k3 (by rw [bd17 p' q, e]; exact List.mem_cons_self)
          rw [← this, if_pos q]
        · have := one f' p' k1 k2 k3 (by rw [bd19 p' q, e]; exact List.mem_cons_self)
          rw [← this, if_neg (by omega), if_pos e]
        · have := one f' p' k1 k2 k3 (by rw [bd20 p' q, e]; exact List.mem_cons_self)
          rw [← this, if_neg (by omega), if_pos e]
        · have := one f' p' k1 k2 k3 (by rw [bd20 p' q, e]; exact List.mem_cons_of_mem _ List.mem_cons_self)
          rw [← this, if_neg (by omega), if_neg (by omega)]
      · have no : ∀ f' p, f' ≤ D.fc → D.bP f' ≤ p → p < D.bP (f' + 1) → v ∈ D.bd p → False := fun f' p k1 k2 k3 k4 => c2 ⟨f', p, k1, k2, k3, k4⟩
        exact ⟨0, fun f' k k1 k2 k3 => (c1 ⟨f', k, k1, k2, k3⟩).elim, fun f' p k1 k2 k3 => ⟨fun q e => (no f' p k1 k2 k3 (by rw [bd17 p q, e]; exact List.mem_cons_self)).elim, fun q e => (no f' p k1 k2 k3 (by rw [bd19 p q, e]; exact List.mem_cons_self)).elim, fun q => ⟨fun e => (no f' p k1 k2 k3 (by rw [bd20 p q, e]; exact List.mem_cons_self)).elim, fun e => (no f' p k1 k2 k3 (by rw [bd20 p q, e]; exact List.mem_cons_of_mem _ List.mem_cons_self)).elim⟩⟩⟩
  obtain ⟨sl, hsl⟩ := Classical.axiomOfChoice hSL
  exact ⟨hgt, sl, hroot, hkid, fun f k hf hk => (hsl _).1 f k hf hk rfl, fun f p hf h1 h2 => ⟨fun q => ((hsl _).2 f p hf h1 h2).1 q rfl, fun q => ((hsl _).2 f p hf h1 h2).2.1 q rfl, fun q => ⟨(((hsl _).2 f p hf h1 h2).2.2 q).1 rfl, (((hsl _).2 f p hf h1 h2).2.2 q).2 rfl⟩⟩⟩
end HEIGHTS
