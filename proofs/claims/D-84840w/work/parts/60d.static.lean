/-! RUNS: what is known of the program -/
/-- types of a part -/
def STy (D : pgD) (rg : rgD) (cd : cdD) (T : tsD) (f p : Nat) : Prop :=
  (D.K p = 0 → T.g.ki (T.oC p) = 1) ∧ (D.K p = 1 → T.g.ki (T.oC p) = 3) ∧ (D.K p = 2 → T.oC p = T.vC (D.vl p)) ∧
  (∀ k0 k1 : Nat, D.kd p = [k0, k1] → (D.K p = 4 → T.g.ki (T.oC p) = 2 ∧ T.g.ka (T.oC p) = T.oC k0 ∧ T.g.kb (T.oC p) = T.oC k1) ∧ (D.K p = 16 → T.g.ki (T.oC p) = 3 ∧ T.g.ka (T.oC p) = T.oC k0 ∧ T.oC k1 = T.oC p) ∧ (D.K p = 7 → T.g.ki (T.oC k0) = 4 ∧ T.g.ka (T.oC k0) = T.oC k1 ∧ T.g.kb (T.oC k0) = T.oC p) ∧ (8 ≤ D.K p → D.K p ≤ 15 → T.g.ki (T.oC p) = 1 ∧ T.g.ki (T.oC k0) = 1 ∧ T.g.ki (T.oC k1) = 1) ∧ (D.K p = 19 → T.vC (D.vl p) = T.oC k0 ∧ T.oC k1 = T.oC p)) ∧
  (∀ k0 : Nat, D.kd p = [k0] → (D.K p = 5 → T.g.ki (T.oC k0) = 2 ∧ T.g.ka (T.oC k0) = T.oC p) ∧ (D.K p = 6 → T.g.ki (T.oC k0) = 2 ∧ T.g.kb (T.oC k0) = T.oC p) ∧ (D.K p = 17 → T.g.ki (T.oC p) = 4 ∧ T.g.ka (T.oC p) = T.vC (D.gv (D.vl p)) ∧ T.g.kb (T.oC p) = T.oC k0 ∧ (∀ x, x ∈ cd.cg (D.vl p) → T.g.hl (T.oC p) (T.vC x)) ∧ ∀ k, k ∈ rg.kp (D.vl p) → ∃ y, T.g.hl (T.oC p) y ∧ T.g.rc y (T.kC f k))) ∧
  (∀ k0 k1 k2 : Nat, D.kd p = [k0, k1, k2] → (D.K p = 18 → T.g.ki (T.oC k0) = 1 ∧ T.oC k1 = T.oC p ∧ T.oC k2 = T.oC p) ∧ (D.K p = 20 → T.g.ki (T.oC k0) = 3 ∧ T.g.ka (T.oC k0) = T.vC (D.vl p) ∧ T.vC (D.vl p + 1) = T.oC k0 ∧ T.oC k1 = T.oC p ∧ T.oC k2 = T.oC p)) ∧
  (D.K p = 3 → ∃ (SG : Nat → Prop) (hm : Nat → Nat), HOMg T.g SG hm ∧ (∀ j k : Nat, (D.kd p)[j]? = some k → SG (T.vC (D.tV (D.vl p) + j)) ∧ hm (T.vC (D.tV (D.vl p) + j)) = T.oC k) ∧ (SG (T.oC (D.bP (D.vl p + 1) - 1)) ∧ hm (T.oC (D.bP (D.vl p + 1) - 1)) = T.oC p) ∧ ∀ j, j < (rg.gl (D.vl p)).length → SG (T.kC (D.vl p) ((rg.gl (D.vl p)).getD j 0)) ∧ hm (T.kC (D.vl p) ((rg.gl (D.vl p)).getD j 0)) = T.kC f (handN D rg f p j))
/-- variables of a part -/
def SVa (D : pgD) (cd : cdD) (vd : Nat → Nat) (p : Nat) : Prop :=
  (D.K p = 17 → (cd.vo (D.gv (D.vl p)) = (D.vl p : Int) ∧ (cd.cg (D.vl p)).Nodup) ∧ vd (D.gv (D.vl p)) = (D.sl p).length ∧ (∀ v, v ∈ cd.cg (D.vl p) → v ∈ D.sl p ∧ (cd.vo v ≠ cd.fn D p → v ∈ cd.cg (cd.fn D p).toNat)) ∧ ∀ v, v ∈ D.sl p → cd.vo v ≠ (D.vl p : Int)) ∧
  (D.K p = 19 → cd.vo (D.vl p) = cd.fn D p ∧ vd (D.vl p) = (D.sl p).length) ∧ (D.K p = 20 → (cd.vo (D.vl p) = cd.fn D p ∧ cd.vo (D.vl p + 1) = cd.fn D p) ∧ vd (D.vl p) = (D.sl p).length ∧ vd (D.vl p + 1) = (D.sl p).length + 1) ∧
  (∀ v, v ∈ D.sl p → vd v < (D.sl p).length ∧ ∀ v', v' ∈ D.sl p → vd v = vd v' → v = v') ∧ (D.K p = 2 → D.vl p ∈ D.sl p ∧ (cd.vo (D.vl p) ≠ cd.fn D p → D.vl p ∈ cd.cg (cd.fn D p).toNat))
/-- a number -/
def SNu (D : pgD) (rg : rgD) (T : tsD) (f k : Nat) : Prop := 2 ≤ T.g.ki (T.kC f k) ∧ (∀ k', 1 ≤ k' → k' ≤ rg.nK f → T.kC f k' = T.kC f k → k' = k) ∧ (-1 ≤ rg.ow f (k - 1) ∧ ∀ r : Nat, rg.ow f (k - 1) = (r : Int) → ¬ T.g.rc (T.oC r) (T.kC f k) ∧ ∀ v, v ∈ D.sl r → ¬ T.g.rc (T.vC v) (T.kC f k))
/-- all of it -/
def SPF (D : pgD) (m : Nat) (rg : rgD) (cd : cdD) (T : tsD) (vd : Nat → Nat) : Prop :=
  PGF D m ∧ HTS D cd.hg cd.sl ∧ (∀ f k, f ≤ D.fc → k < D.bk f → cd.vo (D.tV f + k) = -1 ∧ vd (D.tV f + k) = k) ∧ (∀ c, T.g.ki c ≤ 4) ∧
  (∀ f p, f ≤ D.fc → D.bP f ≤ p → p < D.bP (f + 1) → STy D rg cd T f p ∧ SVa D cd vd p) ∧ (∀ f k, f ≤ D.fc → 1 ≤ k → k ≤ rg.nK f → SNu D rg T f k) ∧
  (∀ f q k, f ≤ D.fc → D.bP f ≤ q → q < D.bP (f + 1) → PNu D rg f q k → 1 ≤ k ∧ k ≤ rg.nK f ∧ (rg.ow f (k - 1) = -1 ∨ ∃ r : Nat, rg.ow f (k - 1) = (r : Int) ∧ D.bP f ≤ r ∧ r < D.bP (f + 1) ∧ spn D r q) ∧ (D.K q = 4 ∨ D.K q = 16 ∨ D.K q = 17 → T.kC f k = T.oC q)) ∧
  (∀ f p k0, f ≤ D.fc → D.bP f ≤ p → p < D.bP (f + 1) → D.K p = 17 → D.kd p = [k0] → (∀ q k, spn D k0 q → PNu D rg f q k → k ∈ rg.kp (D.vl p) ∨ ∃ r : Nat, rg.ow f (k - 1) = (r : Int) ∧ spn D k0 r) ∧ ∀ k, k ∈ rg.kp (D.vl p) → 1 ≤ k ∧ k ≤ rg.nK f ∧ (∃ q, spn D k0 q ∧ PNu D rg f q k) ∧ ¬ ∃ r : Nat, rg.ow f (k - 1) = (r : Int) ∧ spn D k0 r) ∧
  ∀ f, f ≤ D.fc → rg.nK f ≤ 60
section STEPS
variable {D : pgD} {m : Nat} {rg : rgD} {cd : cdD} {T : tsD} {vd : Nat → Nat} {X X' : dyD} {E : Nat → trE} {ty ty' : Nat → trE} {i n nr L dd p u : Nat} {av : Nat → Prop}
theorem SPF.fnk {f w k : Nat} (hS : SPF D m rg cd T vd) (hf : f ≤ D.fc) (h1 : D.bP f ≤ p) (h2 : p < D.bP (f + 1)) (h17 : D.K p ≠ 17) (hk : (D.kd p)[w]? = some k) : cd.fn D k = cd.fn D p := by
  have hs := ((hS.1.2.2 f hf).2.2.1 p h1 h2).2.2.2.2.2.1 w k hk
  obtain ⟨_, hW, hW2, _⟩ := (hS.2.2.2.2.1 f p hf h1 h2).2
  show (match D.sl k with | [] => -1 | v :: _ => cd.vo v) = _
  rw [hs]
  unfold pgD.sn
  rw [if_neg h17]
  by_cases c19 : D.K p = 19 ∧ w = 1
  · rw [if_pos c19]; exact (hW c19.1).1
  · rw [if_neg c19]
    by_cases c20 : D.K p = 20 ∧ w = 2
    · rw [if_pos c20]; exact (hW2 c20.1).1.2
    · rw [if_neg c20]; rfl
/-- a kid comes -/
theorem PRT.kid {w k : Nat} (hS : SPF D m rg cd T vd) (h : PRT D rg cd T vd X i E ty nr av L dd p p) (h17 : D.K p ≠ 17) (hk : (D.kd p)[w]? = some k) (ht : ∀ j, j < X.bs i + cd.hg p → ty' j = ty j) (hn : ∀ v, v ∈ D.sn p w → X.aV i (vd v) = ((X.bs i + cd.sl v : Nat) : Int) ∧ cd.sl v < cd.hg k ∧ ty' (X.bs i + cd.sl v) = E (T.vC v)) :
    PRT D rg cd T vd X i E ty' nr av L (D.sl k).length k (k + 1) := by
  obtain ⟨⟨a1, a2, a3, a4, a5⟩, b, c, d1, d2⟩ := h
  have hF := hS.1
  have hPf := hF.2.2 _ a1
  have hp := hPf.2.2.1 p a2 a3
  obtain ⟨z1, z2, z3, z4⟩ := contN.at _ _ _ _ _ hp.2.1 hk
  have hs := hp.2.2.2.2.2.1 w k hk
  have hst := hp.1.2.2.1
  have hfn := hS.fnk a1 a2 a3 h17 hk
  have hhg : cd.hg p ≤ cd.hg k := by
    rw [hS.2.1.2.1 _ p w k a1 a2 a3 hk]
    unfold hgw
    rw [if_neg h17]
    by_cases q : D.K p = 18
    · rw [if_pos q]; omega
    · rw [if_neg q]
      by_cases q2 : D.K p = 20
      · rw [if_pos q2]
        by_cases q3 : w = 2
        · rw [if_pos q3]; omega
        · rw [if_neg q3]; omega
      · rw [if_neg q2]; omega
  obtain ⟨_, _, _, hvk, _⟩ := (hS.2.2.2.2.1 _ k a1 (by omega) (by omega)).2
  have hvn : ∀ v, v ∈ D.sn p w → cd.vo v = cd.fn D p := fun v hv => by
    obtain ⟨_, hW, hW2, _⟩ := (hS.2.2.2.2.1 _ p a1 a2 a3).2
    unfold pgD.sn at hv
    rw [if_neg h17] at hv
    by_cases c19 : D.K p = 19 ∧ w = 1
    · rw [if_pos c19] at hv
      rw [List.mem_singleton.mp hv]; exact (hW c19.1).1
    · rw [if_neg c19] at hv
      by_cases c20 : D.K p = 20 ∧ w = 2
      · rw [if_pos c20] at hv
        rcases List.mem_cons.mp hv with e | e
        · rw [e]; exact (hW2 c20.1).1.2
        · rw [List.mem_singleton.mp e]; exact (hW2 c20.1).1.1
      · rw [if_neg c20] at hv; cases hv
  refine ⟨⟨a1, by omega, by omega, by rw [hfn]; exact a4, rfl⟩, b, fun v hv => ⟨(hvk v hv).1, fun e => ?_, fun e hc => ?_⟩, fun q k' q1 q2 hq => ?_, fun k' r hk' hr hb => d2 k' r hk' hr (by omega)⟩
  · rw [hs] at hv
    rcases List.mem_append.mp hv with g | g
    · exact hn v g
    · rw [hfn] at e
      obtain ⟨g1, g2, g3⟩ := (c v g).2.1 e
      exact ⟨g1, by omega, by rw [ht _ (by omega)]; exact g3⟩
  · rw [hs] at hv
    rw [hfn] at e hc ⊢
    rcases List.mem_append.mp hv with g | g
    · exact absurd (hvn v g) e
    · exact (c v g).2.2 e hc
  · rcases d1 q k' (by omega) (by omega) hq with g | ⟨r, g1, g2, g3⟩
    · exact .inl g
    · refine .inr ⟨r, g1, ?_⟩
      rcases (hS.2.2.2.2.2.2.1 _ q k' a1 (by omega) (by omega) hq).2.2.1 with e | ⟨r', e1, e2, e3, e4⟩
      · rw [g1] at e; omega
      · have er : r' = r := by rw [g1] at e1; omega
        subst er
        obtain ⟨e5, e6⟩ := e4
        refine ⟨by omega, ?_⟩
        by_cases q' : r' ≤ k
        · omega
        · have hn1 := spn.nest hPf r' k r' q (Nat.le_refl _) (by omega) (by omega) e2 e3 (by omega) ⟨q1, q2⟩ ⟨e5, e6⟩
          have := spn.par hPf r' r' k p w (Nat.le_refl _) e2 e3 a2 a3 hk hn1 (by omega)
          have := this.2
          omega
end STEPS
