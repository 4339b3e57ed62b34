/-! REGIONS, THE MODEL: keepRegions, whole -/
section KEEPREG
variable {L : Nat} {xs : Nat → Int32} {σ τ τ' τ0 τ2 : tvS} {D : pgD} {Gs : sgD} {m f N : Nat} {G : tG} {r : Nat → Nat} {R : List Nat} {ow : Nat → Int} {S0 S1 : Nat} {vs us sc : Nat → Nat} {cl : Nat → List Nat} {pt by' : Nat → Nat}
/-- between two parts -/
def KRI (D : pgD) (Gs : sgD) (f : Nat) (r : Nat → Nat) (R : List Nat) (ow : Nat → Int) (τ0 : tvS) (p cf kf cf0 kf0 : Nat) (pt by' : Nat → Nat) (gf gk : Nat → Nat) (τ : tvS) : Prop :=
  frM FKO [103, 107] τ0 τ ∧ (rd τ 123 103 = i32 (cf : Int) ∧ rd τ 123 107 = i32 (kf : Int) ∧ cf0 ≤ cf ∧ kf0 ≤ kf) ∧ (∀ i, i < cf0 → rd τ 198 i = rd τ0 198 i) ∧ (∀ i, i < kf0 → rd τ 201 i = rd τ0 201 i) ∧ (∀ q, (∀ j, D.bF f ≤ j → j < D.bF (f + 1) → q ≠ pt j) → rd τ 196 q = rd τ0 196 q ∧ rd τ 197 q = rd τ0 197 q ∧ rd τ 199 q = rd τ0 199 q ∧ rd τ 200 q = rd τ0 200 q) ∧
  ∀ j, D.bF f ≤ j → j < D.bF (f + 1) → pt j < p → KPF (pt j) (gf j) (gk j) (cgF D (pt j) (D.st (by' j)) (by' j + 1 - D.st (by' j))) (nfil (mkM D Gs f r R ow τ0 (by' j)) R.length) τ ∧ gf j + (cgF D (pt j) (D.st (by' j)) (by' j + 1 - D.st (by' j))).length ≤ cf ∧ gk j + (nfil (mkM D Gs f r R ow τ0 (by' j)) R.length).length ≤ kf
/-- fns among the first parts -/
noncomputable def fnN (D : pgD) (f : Nat) : Nat → Nat
  | 0 => 0
  | k + 1 => fnN D f k + (if D.K (D.bP f + k) = 17 then 1 else 0)
theorem keepr_loop {cf0 kf0 : Nat} (hK : KOD D Gs m f N r R S0 S1 vs us sc cl ow σ τ0) (hpt : FNP D f pt by') (hC40 : ∀ j k, D.bF f ≤ j → j < D.bF (f + 1) → k ≤ by' j + 1 - D.st (by' j) → (cgF D (pt j) (D.st (by' j)) k).length ≤ 40) (hcf : cf0 + 40 * fnN D f (D.bP (f + 1) - D.bP f) + 41 < 30000) (hkf : kf0 + 60 * fnN D f (D.bP (f + 1) - D.bP f) + 61 < 40000) (d : Nat) : ∀ (i k cf kf : Nat) (gf gk : Nat → Nat) (τ : tvS), D.bP f + k + i = D.bP (f + 1) → TM N G r τ → cf ≤ cf0 + 40 * fnN D f k → kf ≤ kf0 + 60 * fnN D f k → KRI D Gs f r R ow τ0 (D.bP f + k) cf kf cf0 kf0 pt by' gf gk τ →
    ∃ (τ' : tvS) (cf' kf' : Nat) (gf' gk' : Nat → Nat), rn L xs (d + 4) 366 117 [.ref 123, .int (i32 (f : Int)), .int (i32 ((D.bP f + k : Nat) : Int))] [] τ = some (.inl none, τ') ∧ TM N G r τ' ∧ cf' ≤ cf0 + 40 * fnN D f (D.bP (f + 1) - D.bP f) ∧ kf' ≤ kf0 + 60 * fnN D f (D.bP (f + 1) - D.bP f) ∧ KRI D Gs f r R ow τ0 (D.bP (f + 1)) cf' kf' cf0 kf0 pt by' gf' gk' τ' := by
  obtain ⟨hF, hf, hR, hty, hcl, hsc, ⟨r1, r2, r3, r4⟩, hin, how, hkn⟩ := id hK
  have hb4 := hF.1
  have hbl := (hF.le (D.fc + 1 - (f + 1)) (f + 1) (by omega))
  have hPf := hF.2.2 f hf
  have hff := hR.1 f hf
  have fmono : ∀ a b, fnN D f a ≤ fnN D f (a + b) := by
    intro a b
    induction b with
    | zero => exact Nat.le_refl _
    | succ b ih => exact Nat.le_trans ih (Nat.le_add_right _ _)
  intro i
  induction i with
  | zero =>
    intro k cf kf gf gk τ e hT h1 h2 hI
    have ek : k = D.bP (f + 1) - D.bP f := by omega
    have e : D.bP f + k = D.bP (f + 1) := by omega
    refine ⟨τ, cf, kf, gf, gk, ?_, hT, by rw [← ek]; exact h1, by rw [← ek]; exact h2, by rw [← e]; exact hI⟩
    rw [e, e366_117 (d + 3), i32_up, c_in (by omega) (by omega) (by omega), i32_ixn (by omega), hI.1.rd (j := 143) rfl, hff.2.1.2.2.2.2.1, c2_ge (by omega) (by omega) (by omega) (by omega), c_t (by omega), e366_152]
  | succ i ih =>
    intro k cf kf gf gk τ e hT h1 h2 hI
    obtain ⟨i1, ⟨i2, i3, i4, i5⟩, i6, i7, i8, i9⟩ := id hI
    have hp2 : D.bP f + k < D.bP (f + 1) := by omega
    have hRp := hR.2 (D.bP f + k) (by omega)
    have hPp := hPf.2.2.1 (D.bP f + k) (by omega) hp2
    have hkq := mKd3 (D.K (D.bP f + k)) (by have := hPp.1.1; omega)
    have e151 : rd τ 151 (D.bP f + k) = i32 (mKd (D.K (D.bP f + k)) : Int) := (i1.rd (j := 151) rfl _).trans hRp.1.2.1
    have hfm := fmono (k + 1) (D.bP (f + 1) - D.bP f - (k + 1))
    rw [show k + 1 + (D.bP (f + 1) - D.bP f - (k + 1)) = D.bP (f + 1) - D.bP f by omega] at hfm
    have m40 := Nat.mul_le_mul_left 40 hfm
    have m60 := Nat.mul_le_mul_left 60 hfm
    have head : rn L xs (d + 4) 366 117 [.ref 123, .int (i32 (f : Int)), .int (i32 ((D.bP f + k : Nat) : Int))] [] τ = cond (decide (¬ (mKd (D.K (D.bP f + k)) : Int) = 10)) (rn L xs (d + 4) 366 146 [.ref 123, .int (i32 (f : Int)), .int (i32 ((D.bP f + k : Nat) : Int))] [] τ) (bV (rn L xs (d + 3) 367 0 [.ref 123, .int (i32 (f : Int)), .int (i32 ((D.bP f + k : Nat) : Int)), jv, jv, jv, jv, jv, jv] [] τ) (fun s1 => rn L xs (d + 4) 366 146 [.ref 123, .int (i32 (f : Int)), .int (i32 ((D.bP f + k : Nat) : Int))] [] s1) X0) := by
      rw [e366_117 (d + 3), i32_up, c_in (by omega) (by omega) (by omega), i32_ixn (by omega), i1.rd (j := 143) rfl, hff.2.1.2.2.2.2.1, c2_ge (by omega) (by omega) (by omega) (by omega), c_f (by omega), c_in (by omega) (by omega) (by omega), i32_ixn (by omega), e151, show (10 : Int32) = i32 10 from rfl, c2_ne (by omega) (by omega) (by omega) (by omega)]
    by_cases q : D.K (D.bP f + k) = 17
    · have efn : fnN D f (k + 1) = fnN D f k + 1 := by show fnN D f k + (if D.K (D.bP f + k) = 17 then 1 else 0) = _; rw [if_pos q]
      rw [efn] at m40 m60
      obtain ⟨g1, g2⟩ := hPp.2.2.2.2.2.2.1 q
      obtain ⟨p1, p2, p3, p4, p5⟩ := hpt (D.vl (D.bP f + k)) g1 g2
      have epp : pt (D.vl (D.bP f + k)) = D.bP f + k := by
        have h1 := ((hR.2 (pt (D.vl (D.bP f + k))) (by omega)).2.2.2.2.2.1 p3).2.2.2
        rw [p4, (hRp.2.2.2.2.2.1 q).2.2.2] at h1
        have := (i32_inj (by omega) (by omega) (by omega) (by omega)).mp h1
        omega
      obtain ⟨J, eJ⟩ : ∃ J, J = D.vl (D.bP f + k) := ⟨_, rfl⟩
      rw [← eJ] at g1 g2 p1 p2 p3 p4 p5 epp
      have hfn : FNe D f (D.bP f + k) (by' J) := ⟨by omega, hp2, q, by rw [epp] at p5; exact p5⟩
      have h40 := hC40 J
      rw [epp] at h40
      obtain ⟨s1, a1, a2, a3, a4, a5, a6, a7, a8, a9⟩ := keepOf_m (L := L) (xs := xs) (cf := cf) (kf := kf) hK i1 hT hfn (fun k' hk' => h40 k' g1 g2 hk') (by omega) (by omega) i2 i3 d
      have hl40 := h40 (by' J + 1 - D.st (by' J)) g1 g2 (Nat.le_refl _)
      have hl60 := nfil_len (mk := mkM D Gs f r R ow τ0 (by' J)) R.length
      obtain ⟨gf', ef1, ef2⟩ : ∃ g : Nat → Nat, g J = cf ∧ ∀ j, j ≠ J → g j = gf j := ⟨fun j => if j = J then cf else gf j, if_pos rfl, fun j hj => if_neg hj⟩
      obtain ⟨gk', ek1, ek2⟩ : ∃ g : Nat → Nat, g J = kf ∧ ∀ j, j ≠ J → g j = gk j := ⟨fun j => if j = J then kf else gk j, if_pos rfl, fun j hj => if_neg hj⟩
      have hI2 : KRI D Gs f r R ow τ0 (D.bP f + (k + 1)) (cf + (cgF D (D.bP f + k) (D.st (by' J)) (by' J + 1 - D.st (by' J))).length) (kf + (nfil (mkM D Gs f r R ow τ0 (by' J)) R.length).length) cf0 kf0 pt by' gf' gk' s1 := by
        refine ⟨i1.trans a3, ⟨a5, a6, by omega, by omega⟩, fun i hi => by rw [a7 i (by omega)]; exact i6 i hi, fun i hi => by rw [a8 i (by omega)]; exact i7 i hi, fun q' hq' => ?_, fun j j1 j2 j3 => ?_⟩
        · have hne : q' ≠ D.bP f + k := by rw [← epp]; exact hq' J g1 g2
          obtain ⟨b1, b2, b3, b4⟩ := a9 q' hne
          rw [b1, b2, b3, b4]; exact i8 q' hq'
        · by_cases g : j = J
          · rw [g, ef1, ek1, epp]
            exact ⟨a4, Nat.le_refl _, Nat.le_refl _⟩
          · have hne : pt j ≠ D.bP f + k := fun h => by
              have := (hpt j j1 j2).2.2.2.1
              rw [h, ← eJ] at this; exact g this.symm
            obtain ⟨⟨b1, b2, b3, b4, b5, b6⟩, b7, b8⟩ := i9 j j1 j2 (by omega)
            obtain ⟨c1, c2, c3, c4⟩ := a9 (pt j) hne
            rw [ef2 j g, ek2 j g]
            refine ⟨⟨by rw [c1]; exact b1, by rw [c2]; exact b2, fun i hi => by rw [a7 _ (by omega)]; exact b3 i hi, by rw [c3]; exact b4, by rw [c4]; exact b5, fun i hi => by rw [a8 _ (by omega)]; exact b6 i hi⟩, by omega, by omega⟩
      obtain ⟨τ', cf', kf', gf2, gk2, z1, z2, z3, z4, z5⟩ := ih (k + 1) _ _ gf' gk' s1 (by omega) a2 (by rw [efn, Nat.mul_add]; omega) (by rw [efn, Nat.mul_add]; omega) hI2
      refine ⟨τ', cf', kf', gf2, gk2, ?_, z2, z3, z4, z5⟩
      rw [head, decide_eq_false (by rw [hkq.2.2.1.mpr q]; simp), cond_false, bV_ok a1, e366_146, i32_up]
      exact z1
    · have efn : fnN D f (k + 1) = fnN D f k := by show fnN D f k + (if D.K (D.bP f + k) = 17 then 1 else 0) = _; rw [if_neg q]; rfl
      obtain ⟨τ', cf', kf', gf2, gk2, z1, z2, z3, z4, z5⟩ := ih (k + 1) cf kf gf gk τ (by omega) hT (by rw [efn]; exact h1) (by rw [efn]; exact h2) ⟨i1, ⟨i2, i3, i4, i5⟩, i6, i7, i8, fun j j1 j2 j3 => i9 j j1 j2 (by
        have : pt j ≠ D.bP f + k := fun h => q (by rw [← h]; exact (hpt j j1 j2).2.2.1)
        omega)⟩
      refine ⟨τ', cf', kf', gf2, gk2, ?_, z2, z3, z4, z5⟩
      rw [head, decide_eq_true (show ¬ (mKd (D.K (D.bP f + k)) : Int) = 10 from fun h => q (hkq.2.2.1.mp (by omega))), cond_true, e366_146, i32_up]
      exact z1
end KEEPREG
