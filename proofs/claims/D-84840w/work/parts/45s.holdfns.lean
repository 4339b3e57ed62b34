/-! REGIONS, THE MODEL: the arrows of all fns, one round -/
section HOLDFNS
variable {L : Nat} {xs : Nat → Int32} {σ σ' τ0 τ2 σ0 : tvS} {D : pgD} {Gs : sgD} {m f : Nat}
variable {N : Nat} {G : tG} {r : Nat → Nat} {H1 S Sh M : Nat} {ar : Nat → Nat} {A : Nat → Nat → Prop} {Q : Nat → Nat → Prop} {R : List Nat} {S0 S1 : Nat} {vs us sc : Nat → Nat} {cl : Nat → List Nat} {ow : Nat → Int} {j P e : Nat}
theorem holdOf_m {NL : List (Nat × Nat)} {hl : Nat → List Nat} {hv : Nat → Nat} (hD : RDm D Gs m f N r R S0 S1 vs us sc cl ow σ0 τ0 τ2) (hQ : HQm D Gs f N G r R ow H1 (Sh + 1) M ar A Q j P e τ0) (hfn : FNe D f P e) (hP : HPM N G r H1 S Sh ar A NL hl hv τ2 σ) (hLQ : hLe r (hC hl hv) Q) (d : Nat) :
    ∃ (σ' : tvS) (y' : Int32) (NL' : List (Nat × Nat)) (hl' : Nat → List Nat) (hv' : Nat → Nat), rn L xs (d + 4) 358 0 [.ref 123, .int (i32 (f : Int)), .int (i32 (P : Int)), jv, jv, jv] [] σ = some (.inl (some (.int y')), σ') ∧ HRM N G r H1 S (Sh + 1) ar A j NL hl hv Q τ2 0 y' NL' hl' hv' σ' ∧ ∀ q', spn D e q' → HFm D Gs f G r R ow τ0 (hC hl' hv') (ar j) P e q' := by
  obtain ⟨hF, hf, hR, hty, hcl, hsc, hfm, ⟨r1, r2, r3, r4⟩, hin, how⟩ := id hD
  obtain ⟨⟨q1, q2, q3, q4, q5, q6⟩, _⟩ := id hQ
  obtain ⟨e1, e2, e3, e4⟩ := hfn.at hF hf
  have hb4 := hF.1
  have hbl := (hF.le (D.fc + 1 - (f + 1)) (f + 1) (by omega))
  have hPl := hfn.2.1
  have hRP := hR.2 P (by omega)
  obtain ⟨P1, P2⟩ := hty.1 P hfn.1 hfn.2.1
  have hfr : frX FAm [72, 73, 84, 94] [187, 188, 189] τ0 σ := hfm.trans ((hP.2.2.2.2.2.X [187, 188, 189]).sub rfl rfl rfl)
  have e154 : rd σ 154 P = i32 (e : Int) := (hfr.rd (j := 154) rfl P).trans (by
    have := (hRP.2.1 (by rw [hfn.2.2.1]; decide) 0 (by omega)).2
    rw [kid_at hfn.2.2.2] at this
    exact this)
  obtain ⟨s1, a1, a2, a3⟩ := find_M (L := L) (xs := xs) hP.1.1 P2 (d + 2) jv jv jv
  have hP1 := hP.fnd a2 a3
  have hlen := q1 NL hP.2.2.1 (fun e he => (hP.2.2.2.1 e he).1)
  have hrP := hP.1.1.rlt P2
  obtain ⟨h1, h2, h3, h4, h5⟩ := id hP1.1.2.1
  obtain ⟨k1, k2, k3⟩ := h4 (r (oM τ0 P)) hrP (q3 _)
  obtain ⟨s2, b1, b2, b3, b4, b5⟩ := markHeld_m (L := L) (xs := xs) (hv := hv) h2 a2 (fun i hi => ⟨k3 i hi, h3 i (k3 i hi)⟩) k1 hrP hP1.2.1 (by omega) (d + 1) jv
  have hP2 : HPM N G r H1 S (Sh + 1) ar A NL hl hv τ2 s2 := ⟨⟨b2, hP1.1.2.1.fr b3 rfl ⟨rfl, rfl, rfl⟩, hP1.1.2.2.fr b3 rfl ⟨rfl, rfl⟩⟩, b4, hP1.2.2.1, hP1.2.2.2.1, hP1.2.2.2.2.1, hP1.2.2.2.2.2.trans (b3.sub rfl rfl)⟩
  have hmk : MKj N r (Sh + 1) (ar j) hl hv s2 := fun y hy => by
    rw [b5 y hy, q5]
    constructor
    · rintro ⟨i, i1, i2⟩
      exact ⟨hv i, ⟨i, i1, rfl⟩, i2⟩
    · rintro ⟨v, ⟨i, i1, i2⟩, i3⟩
      exact ⟨i, i1, by rw [i2]; exact i3⟩
  have hfr2 : frX FAm [72, 73, 84, 94] [187, 188, 189] τ0 s2 := hfm.trans ((hP2.2.2.2.2.2.X [187, 188, 189]).sub rfl rfl rfl)
  obtain ⟨σ', y', NL', hl', hv', z1, z2, z3⟩ := body_hold (L := L) (xs := xs) (S := S) hD hQ hfn d (e + 1 - D.st e) (D.st e) s2 NL hl hv 0 (by omega) (Nat.le_refl _) hP2 hmk hLQ (.inl rfl)
  have hN := hP.1.1.2.2.1
  refine ⟨σ', y', NL', hl', hv', ?_, z2, fun q' hq' => z3 q' hq'.1 hq'.2⟩
  rw [e358_0 (d + 3), c_in (by omega) (by omega) (by omega), c_in (by omega) (by omega) (by omega), i32_ixn (by omega), hfr.rd (j := 178) rfl, P1, bI_ok a1, bV_ok b1, e154, c_in (by omega) (by omega) (by omega), i32_ixn (by omega), hfr2.rd (j := 161) rfl, (hR.2 e (by omega)).1.2.2.2.2.2.1]
  exact z1
/-- all fns of the function: one round -/
theorem fns_hold {pt by' : Nat → Nat} (hD : RDm D Gs m f N r R S0 S1 vs us sc cl ow σ0 τ0 τ2) (hpt : FNP D f pt by') (hQ : ∀ j Sh, D.bF f ≤ j → j < D.bF (f + 1) → Sh < 2147483648 → HQm D Gs f N G r R ow H1 Sh M ar A Q j (pt j) (by' j) τ0) (d : Nat) : ∀ (n p Sh : Nat) (σ : tvS) (NL : List (Nat × Nat)) (hl : Nat → List Nat) (hv : Nat → Nat) (y : Int32), p + n = D.bP (f + 1) → D.bP f ≤ p → Sh + n < 2147483648 → HPM N G r H1 S Sh ar A NL hl hv τ2 σ → hLe r (hC hl hv) Q → (y = 0 ∨ y = 1) →
    ∃ (σ' : tvS) (y' : Int32) (NL' : List (Nat × Nat)) (hl' : Nat → List Nat) (hv' : Nat → Nat) (Sh' : Nat) (w3 : Value), rn L xs (d + 5) 348 108 [.ref 123, .int (i32 (f : Int)), .int y, .int (i32 (p : Int))] [] σ = rn L xs (d + 5) 348 85 [.ref 123, .int (i32 (f : Int)), .int y', w3] [] σ' ∧ Sh ≤ Sh' ∧ Sh' ≤ Sh + n ∧ HPM N G r H1 S Sh' ar A NL' hl' hv' τ2 σ' ∧ hGe r (hC hl hv) (hC hl' hv') ∧ hLe r (hC hl' hv') Q ∧ NL.length ≤ NL'.length ∧ (y' = 0 ∨ y' = 1) ∧ ((y' = y ∧ NL' = NL ∧ hl' = hl ∧ hv' = hv) ∨ (y' = 1 ∧ NL.length < NL'.length)) ∧ ∀ j, D.bF f ≤ j → j < D.bF (f + 1) → p ≤ pt j → ∀ q', spn D (by' j) q' → HFm D Gs f G r R ow τ0 (hC hl' hv') (ar j) (pt j) (by' j) q' := by
  obtain ⟨hF, hf, hR, hty, hcl, hsc, hfm, ⟨r1, r2, r3, r4⟩, hin, how⟩ := id hD
  have hb4 := hF.1
  have hbl := (hF.le (D.fc + 1 - (f + 1)) (f + 1) (by omega))
  have hPf := hF.2.2 f hf
  have hff := hR.1 f hf
  intro n
  induction n with
  | zero =>
    intro p Sh σ NL hl hv y hn hp hSh hP hLQ hy
    have hfr : frX FAm [72, 73, 84, 94] [187, 188, 189] τ0 σ := hfm.trans ((hP.2.2.2.2.2.X [187, 188, 189]).sub rfl rfl rfl)
    refine ⟨σ, y, NL, hl, hv, Sh, .int (i32 (p : Int)), ?_, Nat.le_refl _, by omega, hP, fun _ _ _ k => k, hLQ, Nat.le_refl _, hy, .inl ⟨rfl, rfl, rfl, rfl⟩, fun j h1 h2 h3 => by have := (hpt j h1 h2).2.1; omega⟩
    rw [e348_108 (d + 4), i32_up, c_in (by omega) (by omega) (by omega), i32_ixn (by omega), hfr.rd (j := 143) rfl, hff.2.1.2.2.2.2.1, c2_ge (by omega) (by omega) (by omega) (by omega), c_t (by omega), e348_146]
  | succ n ih =>
    intro p Sh σ NL hl hv y hn hp hSh hP hLQ hy
    have hfr : frX FAm [72, 73, 84, 94] [187, 188, 189] τ0 σ := hfm.trans ((hP.2.2.2.2.2.X [187, 188, 189]).sub rfl rfl rfl)
    have hRp := hR.2 p (by omega)
    have hPp := hPf.2.2.1 p hp (by omega)
    have hkq := mKd3 (D.K p) (by have := hPp.1.1; omega)
    have e151 : rd σ 151 p = i32 (mKd (D.K p) : Int) := (hfr.rd (j := 151) rfl p).trans hRp.1.2.1
    have head : rn L xs (d + 5) 348 108 [.ref 123, .int (i32 (f : Int)), .int y, .int (i32 (p : Int))] [] σ = cond (decide (¬ (mKd (D.K p) : Int) = 10)) (rn L xs (d + 5) 348 140 [.ref 123, .int (i32 (f : Int)), .int y, .int (i32 (p : Int))] [] σ) (bI (rn L xs (d + 4) 358 0 [.ref 123, .int (i32 (f : Int)), .int (i32 (p : Int)), jv, jv, jv] [] σ) (fun a2 s1 => rn L xs (d + 5) 348 140 [.ref 123, .int (i32 (f : Int)), .int (y ||| a2), .int (i32 (p : Int))] [] s1) X0) := by
      rw [e348_108 (d + 4), i32_up, c_in (by omega) (by omega) (by omega), i32_ixn (by omega), hfr.rd (j := 143) rfl, hff.2.1.2.2.2.2.1, c2_ge (by omega) (by omega) (by omega) (by omega), c_f (by omega), c_in (by omega) (by omega) (by omega), i32_ixn (by omega), e151, show (10 : Int32) = i32 10 from rfl, c2_ne (by omega) (by omega) (by omega) (by omega)]
    have ptu : ∀ j, D.bF f ≤ j → j < D.bF (f + 1) → pt j = p → D.K p = 17 := fun j h1 h2 h3 => by rw [← h3]; exact (hpt j h1 h2).2.2.1
    by_cases k : D.K p = 17
    · obtain ⟨g1, g2⟩ := hPp.2.2.2.2.2.2.1 k
      obtain ⟨p1, p2, p3, p4, p5⟩ := hpt (D.vl p) g1 g2
      have epp : pt (D.vl p) = p := by
        have h1 := ((hR.2 (pt (D.vl p)) (by omega)).2.2.2.2.2.1 p3).2.2.2
        rw [p4, (hRp.2.2.2.2.2.1 k).2.2.2] at h1
        have := (i32_inj (by omega) (by omega) (by omega) (by omega)).mp h1
        omega
      have hfn : FNe D f p (by' (D.vl p)) := ⟨hp, by omega, k, by rw [epp] at p5; exact p5⟩
      have hQ1 := hQ (D.vl p) (Sh + 1) g1 g2 (by omega)
      rw [epp] at hQ1
      obtain ⟨s1, y1, NL1, hl1, hv1, a1, a2, a3⟩ := holdOf_m (L := L) (xs := xs) hD hQ1 hfn hP hLQ d
      obtain ⟨c1, c2, c3, c4, c5, c6, c7⟩ := a2
      have o := (show ((y ||| y1) = 0 ∨ (y ||| y1) = 1) ∧ (y1 = 0 → (y ||| y1) = y) ∧ (y1 = 1 → (y ||| y1) = 1) by
        rcases hy with a | a <;> rcases c6 with b | b <;> subst a <;> subst b <;> decide)
      obtain ⟨σ', y', NL', hl', hv', Sh', w3, z1, z2, z3, z4, z5, z6, z7, z8, z9, z10⟩ := ih (p + 1) (Sh + 1) s1 NL1 hl1 hv1 (y ||| y1) (by omega) (by omega) (by omega) c1 c4 o.1
      refine ⟨σ', y', NL', hl', hv', Sh', w3, ?_, by omega, by omega, z4, fun t v e k => z5 t v e (c3 t v e k), z6, by omega, z8, ?_, fun j h1 h2 h3 q' hq' => ?_⟩
      · rw [head, decide_eq_false (by rw [hkq.2.2.1.mpr k]; simp), cond_false, bI_ok a1, e348_140, i32_up]
        exact z1
      · rcases c7 with ⟨d1, d2, d3, d4⟩ | ⟨d1, d2⟩
        · rcases z9 with ⟨x1, x2, x3, x4⟩ | ⟨x1, x2⟩
          · exact .inl ⟨x1.trans (o.2.1 d1), x2.trans d2, x3.trans d3, x4.trans d4⟩
          · exact .inr ⟨x1, by rw [← d2]; exact x2⟩
        · rcases z9 with ⟨x1, x2, x3, x4⟩ | ⟨x1, x2⟩
          · exact .inr ⟨x1.trans (o.2.2 d1), by rw [x2]; exact d2⟩
          · exact .inr ⟨x1, by omega⟩
      · by_cases g : pt j = p
        · have ej : j = D.vl p := by rw [← g]; exact (hpt j h1 h2).2.2.2.1.symm
          rw [ej] at hq' ⊢
          rw [epp]
          exact (a3 q' hq').ge (hQ (D.vl p) 0 g1 g2 (by omega)).1.2.2.1 z5
        · exact z10 j h1 h2 (by omega) q' hq'
    · obtain ⟨σ', y', NL', hl', hv', Sh', w3, z1, z2, z3, z4, z5, z6, z7, z8, z9, z10⟩ := ih (p + 1) Sh σ NL hl hv y (by omega) (by omega) (by omega) hP hLQ hy
      refine ⟨σ', y', NL', hl', hv', Sh', w3, ?_, by omega, by omega, z4, z5, z6, z7, z8, z9, fun j h1 h2 h3 q' hq' => ?_⟩
      · rw [head, decide_eq_true (show ¬ (mKd (D.K p) : Int) = 10 from fun g => k (hkq.2.2.1.mp (by omega))), cond_true, e348_140, i32_up]
        exact z1
      · by_cases g : pt j = p
        · exact absurd (ptu j h1 h2 g) k
        · exact z10 j h1 h2 (by omega) q' hq'
end HOLDFNS
