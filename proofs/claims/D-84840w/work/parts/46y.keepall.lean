/-! REGIONS, THE MODEL: keepRegions from its start -/
section KEEPALL
variable {L : Nat} {xs : Nat → Int32} {σ τ τ' τ0 : tvS} {D : pgD} {Gs : sgD} {m f N : Nat} {G : tG} {r : Nat → Nat} {R : List Nat} {ow : Nat → Int} {S0 S1 : Nat} {vs us sc : Nat → Nat} {cl : Nat → List Nat} {pt by' : Nat → Nat}
theorem keepReg_m {cf0 kf0 : Nat} (hF : PGF D m) (hf : f ≤ D.fc) (hR : PGR D σ τ) (hty : TYm D f N τ) (hcl : CLm D Gs f N τ) (hsc : SCm D f S0 S1 vs us sc cl τ) (hR60 : R.length ≤ 60) (hnum : ∀ i x : Nat, R[i]? = some x → rd τ 184 x = i32 ((i + 1 : Nat) : Int) ∧ rd τ 185 i = i32 (x : Int) ∧ x < N) (h87 : rd τ 123 87 = i32 (R.length : Int)) (h94 : rd τ 123 94 = i32 ((S0 + 1 : Nat) : Int)) (hin : ∀ q i, D.bP f ≤ q → q < D.bP (f + 1) → i < D.np Gs f q → r (pnM D τ q i) ∈ R) (how : ∀ k, k < R.length → rd τ 186 k = i32 (ow k) ∧ -2 ≤ ow k ∧ ow k < 4101)
    (hT : TM N G r τ) (hpt : FNP D f pt by') (hC40 : ∀ j k, D.bF f ≤ j → j < D.bF (f + 1) → k ≤ by' j + 1 - D.st (by' j) → (cgF D (pt j) (D.st (by' j)) k).length ≤ 40) (hcf : cf0 + 40 * fnN D f (D.bP (f + 1) - D.bP f) + 41 < 30000) (hkf : kf0 + 60 * fnN D f (D.bP (f + 1) - D.bP f) + 61 < 40000) (h103 : rd τ 123 103 = i32 (cf0 : Int)) (h107 : rd τ 123 107 = i32 (kf0 : Int)) (d : Nat) (v2 : Value) :
    ∃ (τ' τ1 : tvS) (cf kf : Nat) (gf gk : Nat → Nat), rn L xs (d + 4) 366 0 [.ref 123, .int (i32 (f : Int)), v2] [] τ = some (.inl none, τ') ∧ TM N G r τ' ∧ cf ≤ cf0 + 40 * fnN D f (D.bP (f + 1) - D.bP f) ∧ kf ≤ kf0 + 60 * fnN D f (D.bP (f + 1) - D.bP f) ∧ KRI D Gs f r R ow τ1 (D.bP (f + 1)) cf kf cf0 kf0 pt by' gf gk τ' ∧ frM FKN [] τ τ1 ∧ oth f τ τ1 ∧ KNM f R ow R.length τ1 ∧ rd τ1 190 f = i32 (R.length : Int) := by
  have hb4 := hF.1
  have hbl := (hF.le (D.fc + 1 - (f + 1)) (f + 1) (by omega))
  have hlt := (hF.2.2 f hf).1.1
  have hff := hR.1 f hf
  obtain ⟨s0, es0⟩ : ∃ s0, s0 = wr (wr τ 190 f (i32 (R.length : Int))) 191 f 0 := ⟨_, rfl⟩
  have w0 : frM FKN [] τ s0 := by rw [es0]; exact (frM_wr rfl (by decide)).trans (frM_wr rfl (by decide))
  have o0 : oth f τ s0 := by
    rw [es0]
    exact ⟨fun g hg => ⟨by rw [wr_nek (by decide), wr_nei hg], by rw [wr_nei hg, wr_nek (by decide)]⟩, fun g i hg hi => ⟨by rw [wr_nek (by decide), wr_nek (by decide)], by rw [wr_nek (by decide), wr_nek (by decide)], by rw [wr_nek (by decide), wr_nek (by decide)]⟩⟩
  have othr : oth f s0 s0 := ⟨fun _ _ => ⟨rfl, rfl⟩, fun _ _ _ _ => ⟨rfl, rfl, rfl⟩⟩
  obtain ⟨s1, a1, a2, a3, a4⟩ := keepn_loop (L := L) (xs := xs) (f := f) (R := R) (ow := ow) (τ0 := s0) (by omega) hR60 (by rw [w0.2 87 rfl]; exact h87) (fun k x hx => by rw [w0.rd (j := 185) rfl]; exact (hnum k x hx).2.1) (fun k hk => by rw [w0.rd (j := 186) rfl]; exact how k hk) (d + 3) R.length 0 s0 (by omega) frM.refl ⟨by rw [es0, wr_self]; rfl, fun i hi => (by cases hi), fun i x hi => by omega⟩ othr
  have w1 : frM FKN [] τ s1 := w0.trans (a2.sub rfl rfl)
  have o1 : oth f τ s1 := o0.trans a4
  have eo : oM s1 = oM τ := by funext q; unfold oM; rw [w1.rd (j := 178) rfl]
  have ev : vM s1 = vM τ := by funext q; unfold vM; rw [w1.rd (j := 179) rfl]
  have er : rM s1 = rM τ := by funext q; unfold rM; rw [w1.rd (j := 180) rfl]
  have ec : cM s1 = cM τ := by funext q i; unfold cM; rw [w1.rd (j := 182) rfl, w1.rd (j := 181) rfl]
  have ep : pnM D s1 = pnM D τ := by funext q i; unfold pnM; rw [eo, ec]
  have e190 : rd s1 190 f = i32 (R.length : Int) := by
    rw [a2.rd (j := 190) rfl, es0, wr_nek (by decide), wr_self]
  have hK : KOD D Gs m f N r R S0 S1 vs us sc cl ow σ s1 := by
    refine ⟨hF, hf, hR.to (fun _ _ _ => rfl) (fun j hj i => w1.rd (inL_off (S := prM) (S' := 123 :: FKN) (by decide) j hj) i), ?_, fun p h1 h2 h3 h4 => ?_, ?_, ⟨hR60, fun i x hx => ⟨by rw [w1.rd (j := 184) rfl]; exact (hnum i x hx).1, (hnum i x hx).2.2⟩, by rw [w1.2 87 rfl]; exact h87, by rw [w1.2 94 rfl]; exact h94⟩, by rw [ep]; exact hin, fun k hk => by rw [w1.rd (j := 186) rfl]; exact how k hk, a3⟩
    · unfold TYm
      rw [eo, ev, er, w1.rd (j := 180) rfl]
      exact ⟨fun p h1 h2 => by rw [w1.rd (j := 178) rfl]; exact hty.1 p h1 h2, fun p h1 h2 => by rw [w1.rd (j := 179) rfl]; exact hty.2.1 p h1 h2, hty.2.2⟩
    · obtain ⟨k1, b1, b2, b3, b4, b5⟩ := hcl p h1 h2 h3 h4
      exact ⟨k1, by rw [w1.rd (j := 181) rfl]; exact b1, b2, fun i hi => by rw [ec, w1.rd (j := 182) rfl]; exact b3 i hi, by rw [(o1.1 (D.vl p) (by omega)).2]; exact b4, b5⟩
    · obtain ⟨b1, b2, b3, b4⟩ := hsc
      exact ⟨by rw [w1.rd (j := 202) rfl, w1.rd (j := 202) rfl]; exact b1, fun s h1 h2 => by rw [w1.rd (j := 149) rfl, w1.rd (j := 150) rfl]; exact b2 s h1 h2, b3, fun p h1 h2 => by rw [w1.rd (j := 160) rfl]; exact b4 p h1 h2⟩
  obtain ⟨τ', cf, kf, gf, gk, z1, z2, z3, z4, z5⟩ := keepr_loop (L := L) (xs := xs) (G := G) hK hpt hC40 hcf hkf d (D.bP (f + 1) - D.bP f) 0 cf0 kf0 (fun _ => 0) (fun _ => 0) s1 (by omega) (hT.fr w1 rfl ⟨rfl, rfl, rfl, rfl⟩) (by omega) (by omega) ⟨frM.refl, ⟨by rw [w1.2 103 rfl]; exact h103, by rw [w1.2 107 rfl]; exact h107, Nat.le_refl _, Nat.le_refl _⟩, fun _ _ => rfl, fun _ _ => rfl, fun _ _ => ⟨rfl, rfl, rfl, rfl⟩, fun j j1 j2 j3 => by have := (hpt j j1 j2).1; omega⟩
  refine ⟨τ', s1, cf, kf, gf, gk, ?_, z2, z3, z4, z5, w1, o1, a3, e190⟩
  have a1' : rn L xs (d + 4) 366 19 [.ref 123, .int (i32 (f : Int)), .int 0] [] s0 = rn L xs (d + 4) 366 110 [.ref 123, .int (i32 (f : Int)), .int (i32 (R.length : Int))] [] s1 := a1
  rw [e366_0, c_in (by omega) (by omega) (by omega), c_in (by omega) (by omega) (by omega), i32_ixn (by omega), h87, ← es0, a1', e366_110, c_in (by omega) (by omega) (by omega), i32_ixn (by omega), w1.rd (j := 143) rfl, hff.2.1.2.2.2.1]
  exact z1
end KEEPALL
