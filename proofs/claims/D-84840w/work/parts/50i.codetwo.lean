/-! CODE: pairs, joins, operations, closures -/
section CODETWO
variable {L : Nat} {xs : Nat → Int32} {σ σ' σ0 τ0 : tvS} {K1 K2 N f a n : Nat} {C : tG} {c : Nat → Nat} {cf : Int} {D : pgD} {G : sgD} {rg : rgD} {cd : cdD} {m : Nat} {cp : Nat → List (Nat × Nat)} {dp : Nat → Nat}
/-- a put's number -/
theorem num_part {p : Nat} (hE : CEN D G rg cd m N c cp dp σ0 τ0) (hf : f ≤ D.fc) (h1 : D.bP f ≤ p) (h2 : p < D.bP (f + 1)) (hK : D.K p = 4 ∨ D.K p = 16 ∨ D.K p = 17) (hC : CDS K1 K2 N C c f cf a σ0 σ) (d : Nat) :
    ∃ σ', rn L xs (d + 3) 205 0 [.ref 94, .int (i32 (p : Int))] [] σ = some (.inl (some (.int (i32 (rg.nu p 0 : Int)))), σ') ∧ CDS K1 K2 N C c f cf a σ0 σ' ∧ frW [52] σ σ' := by
  obtain ⟨u1, u2, u3, u4, u5, u6⟩ := hE.up hf
  obtain ⟨fst, bl, ⟨b1, b2, b3, b4, b5, b6, b7⟩, b8, b9, b10, b11, b12⟩ := hE.2.2.2.1 f hf
  have hnp : 0 < D.np G f p := by unfold pgD.np; rw [if_pos hK]; exact Nat.one_pos
  obtain ⟨n1, n2, n3, n4⟩ := b8 p 0 h1 h2 hnp
  have epn : pnC D σ0 p 0 = oT σ0 p := by unfold pnC; rw [if_pos hK]
  rw [epn] at n3 n4
  have w := hC.2.2.2.2.2.2.1
  have hN := hC.1.lt hC.2.1
  have p153 : rn L xs (d + 2) 153 0 [.ref 65, .int (i32 (p : Int))] [] σ = some (.inl (some (.int (i32 (oT σ0 p : Int)))), σ) := by
    rw [e153_0, c_in (by omega) (by omega) (by omega), i32_ixn (by omega), w.1 66 rfl, b10 p h1 h2]
  obtain ⟨s1, a1, a2, a3⟩ := num_code (L := L) (xs := xs) (k := rg.nu p 0 - 1) hC (show f < 21 by omega) b3 b5 b6 (by omega) n4 n3 d jv jv
  rw [show rg.nu p 0 - 1 + 1 = rg.nu p 0 by omega] at a1
  refine ⟨s1, ?_, a2, a3⟩
  rw [e205_0 (d + 2), bI_ok p153, hC.2.2.2.2.1, bI_ok a1]
theorem CEX.W {sl : Nat → Nat} (w : frW [52] σ σ') : CEX sl a σ σ' := ⟨fun i _ => w.1 95 rfl i, fun v => .inl (w.1 99 rfl v), fun j hj i => by rcases hj with e | e | e <;> subst e <;> exact w.1 _ rfl i⟩
theorem kd_two {p : Nat} (h : (D.kd p).length = 2) : ∃ k0 k1, D.kd p = [k0, k1] := by
  cases e : D.kd p with
  | nil => rw [e] at h; cases h
  | cons k0 r =>
    cases r with
    | nil => rw [e] at h; cases h
    | cons k1 r =>
      cases r with
      | nil => exact ⟨k0, k1, rfl⟩
      | cons _ _ => rw [e] at h; cases h
theorem kd_one {p : Nat} (h : (D.kd p).length = 1) : ∃ k0, D.kd p = [k0] := by
  cases e : D.kd p with
  | nil => rw [e] at h; cases h
  | cons k0 r =>
    cases r with
    | nil => exact ⟨k0, rfl⟩
    | cons _ _ => rw [e] at h; cases h
theorem kd_three {p : Nat} (h : (D.kd p).length = 3) : ∃ k0 k1 k2, D.kd p = [k0, k1, k2] := by
  cases e : D.kd p with
  | nil => rw [e] at h; cases h
  | cons k0 r =>
    cases r with
    | nil => rw [e] at h; cases h
    | cons k1 r =>
      cases r with
      | nil => rw [e] at h; cases h
      | cons k2 r =>
        cases r with
        | nil => exact ⟨k0, k1, k2, rfl⟩
        | cons _ _ => rw [e] at h; cases h
theorem in_put {p : Nat} (hE : CEN D G rg cd m N c cp dp σ0 τ0) (hf : f ≤ D.fc) (IH : PTC L xs K1 K2 N C c D rg cd dp f cf σ0 n) (h1 : D.bP f ≤ p) (h2 : p < D.bP (f + 1)) (hfn : cd.fn D p = cf) (hdp : 100 ≤ dp p + (n + 1)) (hK : D.K p = 4 ∨ D.K p = 16) (hC : CDS K1 K2 N C c f cf a σ0 σ) (hS : SLS D cd cf p σ) (hz : a + sumF (cqF D rg cd f cf) (D.st p) (p - D.st p) + 10 ≤ 131000) (d : Nat) :
    ∃ (σ' : tvS) (b : Nat), rn L xs (d + 3 * n + 8) 201 0 [.ref 94, .int (i32 (p : Int)), .int (i32 (cd.hg p : Int))] [] σ = some (.inl none, σ') ∧ CDS K1 K2 N C c f cf (b + 2) σ0 σ' ∧ KCH (CA D rg cd (rd σ' 95) f n) (D.kd p) a b ∧ rd σ' 95 b = (if D.K p = 4 then 7 else 8) ∧ rd σ' 95 (b + 1) = i32 (rg.nu p 0 : Int) ∧ CEX cd.sl a σ σ' ∧ b ≤ a + sumF (cqF D rg cd f cf) (D.st p) (p - D.st p) := by
  have hp := (hE.1.2.2 f hf).2.2.1 p h1 h2
  obtain ⟨k0, k1, hkd⟩ := kd_two (D := D) (p := p) (by rw [hp.2.2.1 (by omega)]; rcases hK with e | e <;> rw [e] <;> rfl)
  obtain ⟨s1, b, a1, a2, a3, a4, a5, a6⟩ := two_code (L := L) (xs := xs) hE hf IH h1 h2 hfn hdp (by omega) hkd hC hS hz (if D.K p = 4 then 7 else 8) d
  obtain ⟨s2, b1, b2, b3⟩ := num_part (L := L) (xs := xs) hE hf h1 h2 (by omega) a2 (d + 3 * n + 4)
  obtain ⟨s3, c1, c2, c3, c4, _⟩ := put_code (L := L) (xs := xs) (sl := cd.sl) b2 (by omega) (i32 (rg.nu p 0 : Int)) (d + 3 * n + 6)
  have hle := KCH.le (C := CA D rg cd (rd s1 95) f n) (CA.lt n) _ _ _ a3
  have row : ∀ i, i < b + 1 → rd s3 95 i = rd s1 95 i := fun i hi => by rw [c4.1 i hi, b3.1 95 rfl]
  refine ⟨s3, b, ?_, c2, KCH.to (CA.lt n) _ _ _ a b (Nat.le_refl _) (Nat.le_refl _) (fun k x y _ _ hy q => CA.to _ _ _ _ q (fun i i1 i2 => row i (by omega))) a3, by rw [row b (by omega)]; exact a4, c3, (a5.trans (CEX.W (a := b + 1) b3) (by omega)).trans c4 (by omega), a6⟩
  rw [in_go hE hf h1 h2 hC _ (d + 3 * n + 7)]
  rcases hK with e | e
  · rw [e] at a1 ⊢
    show rn L xs (d + 3 * n + 8) 201 158 _ [] σ = _
    rw [e201_158 (d + 3 * n + 7)]
    have a1 : rn L xs (d + 3 * n + 7) 204 0 [.ref 94, .int (i32 (p : Int)), .int (i32 (cd.hg p : Int)), .int 7] [] σ = some (.inl none, s1) := a1
    rw [bV_ok a1, bI_ok b1, bV_ok c1, e201_352]
  · rw [e] at a1 ⊢
    show rn L xs (d + 3 * n + 8) 201 178 _ [] σ = _
    rw [e201_178 (d + 3 * n + 7)]
    have a1 : rn L xs (d + 3 * n + 7) 204 0 [.ref 94, .int (i32 (p : Int)), .int (i32 (cd.hg p : Int)), .int 8] [] σ = some (.inl none, s1) := a1
    rw [bV_ok a1, bI_ok b1, bV_ok c1, e201_352]
theorem in_two {p : Nat} (hE : CEN D G rg cd m N c cp dp σ0 τ0) (hf : f ≤ D.fc) (IH : PTC L xs K1 K2 N C c D rg cd dp f cf σ0 n) (h1 : D.bP f ≤ p) (h2 : p < D.bP (f + 1)) (hfn : cd.fn D p = cf) (hdp : 100 ≤ dp p + (n + 1)) (hK : D.K p = 7 ∨ (8 ≤ D.K p ∧ D.K p ≤ 15)) (hC : CDS K1 K2 N C c f cf a σ0 σ) (hS : SLS D cd cf p σ) (hz : a + sumF (cqF D rg cd f cf) (D.st p) (p - D.st p) + 10 ≤ 131000) (d : Nat) :
    ∃ (σ' : tvS) (b : Nat), rn L xs (d + 3 * n + 8) 201 0 [.ref 94, .int (i32 (p : Int)), .int (i32 (cd.hg p : Int))] [] σ = some (.inl none, σ') ∧ CDS K1 K2 N C c f cf (b + 1) σ0 σ' ∧ KCH (CA D rg cd (rd σ' 95) f n) (D.kd p) a b ∧ rd σ' 95 b = (if D.K p = 5 then 10 else if D.K p = 6 then 11 else if D.K p = 7 then 25 else i32 ((4 + D.K p : Nat) : Int)) ∧ CEX cd.sl a σ σ' ∧ b ≤ a + sumF (cqF D rg cd f cf) (D.st p) (p - D.st p) := by
  obtain ⟨u1, u2, u3, u4, u5, u6⟩ := hE.up hf
  have hp := (hE.1.2.2 f hf).2.2.1 p h1 h2
  have ari2 : ∀ x, x < 16 → 7 ≤ x → ari x = 2 := by decide
  obtain ⟨k0, k1, hkd⟩ := kd_two (D := D) (p := p) (by rw [hp.2.2.1 (by omega)]; exact ari2 _ (by omega) (by omega))
  obtain ⟨s1, b, a1, a2, a3, a4, a5, a6⟩ := two_code (L := L) (xs := xs) hE hf IH h1 h2 hfn hdp (by omega) hkd hC hS hz (if D.K p = 5 then 10 else if D.K p = 6 then 11 else if D.K p = 7 then 25 else i32 ((4 + D.K p : Nat) : Int)) d
  refine ⟨s1, b, ?_, a2, a3, a4, a5, a6⟩
  rw [if_neg (by omega), if_neg (by omega)] at a1
  rw [in_go hE hf h1 h2 hC _ (d + 3 * n + 7)]
  rcases hK with e | e
  · rw [e] at a1 ⊢
    show rn L xs (d + 3 * n + 8) 201 239 _ [] σ = _
    rw [e201_239 (d + 3 * n + 7)]
    have a1 : rn L xs (d + 3 * n + 7) 204 0 [.ref 94, .int (i32 (p : Int)), .int (i32 (cd.hg p : Int)), .int 25] [] σ = some (.inl none, s1) := a1
    rw [bV_ok a1, e201_352]
  · have ht : ∀ x, x < 16 → 8 ≤ x → t201 x = 331 := by decide
    rw [ht _ (by omega) e.1]
    rw [if_neg (by omega)] at a1
    have e12 : (12 + i32 (D.K p : Int)) - 8 = i32 ((4 + D.K p : Nat) : Int) := by
      rw [show (12 : Int32) = i32 12 from rfl, show (8 : Int32) = i32 8 from rfl, i32_add, i32_sub]; congr 1; omega
    rw [e201_331 (d + 3 * n + 7), c_in (by omega) (by omega) (by omega), i32_ixn (by omega), hC.2.2.2.2.2.2.1.1 16 rfl, (hE.2.1.2 p (by omega)).1.1, e12, bV_ok a1, e201_352]
theorem in_of {p : Nat} (hE : CEN D G rg cd m N c cp dp σ0 τ0) (hf : f ≤ D.fc) (IH : PTC L xs K1 K2 N C c D rg cd dp f cf σ0 n) (h1 : D.bP f ≤ p) (h2 : p < D.bP (f + 1)) (hfn : cd.fn D p = cf) (hdp : 100 ≤ dp p + (n + 1)) (hK : D.K p = 5 ∨ D.K p = 6) (hC : CDS K1 K2 N C c f cf a σ0 σ) (hS : SLS D cd cf p σ) (hz : a + sumF (cqF D rg cd f cf) (D.st p) (p - D.st p) + 10 ≤ 131000) (d : Nat) :
    ∃ (σ' : tvS) (b : Nat), rn L xs (d + 3 * n + 8) 201 0 [.ref 94, .int (i32 (p : Int)), .int (i32 (cd.hg p : Int))] [] σ = some (.inl none, σ') ∧ CDS K1 K2 N C c f cf (b + 1) σ0 σ' ∧ KCH (CA D rg cd (rd σ' 95) f n) (D.kd p) a b ∧ rd σ' 95 b = (if D.K p = 5 then 10 else if D.K p = 6 then 11 else if D.K p = 7 then 25 else i32 ((4 + D.K p : Nat) : Int)) ∧ CEX cd.sl a σ σ' ∧ b ≤ a + sumF (cqF D rg cd f cf) (D.st p) (p - D.st p) := by
  obtain ⟨u1, u2, u3, u4, u5, u6⟩ := hE.up hf
  have hp := (hE.1.2.2 f hf).2.2.1 p h1 h2
  obtain ⟨k0, hkd⟩ := kd_one (D := D) (p := p) (by rw [hp.2.2.1 (by omega)]; rcases hK with e | e <;> rw [e] <;> rfl)
  have hcn := hp.2.1
  rw [hkd] at hcn
  obtain ⟨c1, c2, c3, c4⟩ := hcn
  have c4 : k0 + 1 = p := c4
  obtain ⟨z1, z2, z3, z4, z5, z6, z7, z8⟩ := hE.kid hf h1 h2 (by omega) (show (D.kd p)[0]? = some k0 by rw [hkd]; rfl)
  have hg0 : cd.hg k0 = cd.hg p := by rw [z7]; unfold hgw; rw [if_neg (by omega), if_neg (by omega), if_neg (by omega)]; rfl
  have e0 : sumF (cqF D rg cd f cf) (D.st p) (p - D.st p) = sumF (cqF D rg cd f cf) (D.st k0) (k0 + 1 - D.st k0) := by rw [c1, c4]
  have w := hC.2.2.2.2.2.2.1
  have r20 : rd σ 20 p = i32 (k0 : Int) := by
    have r0 := ((hE.2.1.2 p (by omega)).2.1 (by omega) 0 (by omega)).1
    rw [hkd] at r0
    rw [w.1 20 rfl]; exact r0
  have sn0 : D.sn p 0 = [] := by unfold pgD.sn; rw [if_neg (by omega), if_neg (by omega), if_neg (by omega)]
  obtain ⟨s1, x1, a1, a2, a3, a4, a5⟩ := IH k0 a (d + 1) σ z1 (by omega) (z5.trans hfn) (by omega) hC (hS.kid z8 (fun v hv => by rw [sn0] at hv; cases hv)) (by omega)
  have a1' : rn L xs (d + 3 * n + 7) 198 0 [.ref 94, .int (i32 (k0 : Int)), .int (i32 (cd.hg k0 : Int)), jv, jv] [] σ = some (.inl none, s1) := by
    rw [show d + 3 * n + 7 = d + 1 + 3 * n + 6 by omega]; exact a1
  have lt1 := CA.lt _ _ _ _ a3
  obtain ⟨s2, d1, d2, d3, d4, _⟩ := put_code (L := L) (xs := xs) (sl := cd.sl) a2 (by omega) (if D.K p = 5 then 10 else if D.K p = 6 then 11 else if D.K p = 7 then 25 else i32 ((4 + D.K p : Nat) : Int)) (d + 3 * n + 6)
  refine ⟨s2, x1, ?_, d2, ?_, d3, a4.trans d4 (by omega), by omega⟩
  · rw [in_go hE hf h1 h2 hC _ (d + 3 * n + 7)]
    have r16 : rd s1 16 p = i32 (D.K p : Int) := by rw [a2.2.2.2.2.2.2.1.1 16 rfl]; exact (hE.2.1.2 p (by omega)).1.1
    rcases hK with e | e
    · rw [e] at d1 r16 ⊢
      show rn L xs (d + 3 * n + 8) 201 198 _ [] σ = _
      rw [e201_198 (d + 3 * n + 7), c_in (by omega) (by omega) (by omega), i32_ixn (by omega), r20, ← hg0, bV_ok a1', c_in (by omega) (by omega) (by omega), r16, show (5 : Int32) = i32 ((5 : Nat) : Int) from rfl, c2_ne (by omega) (by omega) (by omega) (by omega), c_f (by omega), e201_233 (d + 3 * n + 7)]
      have d1 : rn L xs (d + 3 * n + 7) 199 0 [.ref 94, .int 10] [] s1 = some (.inl none, s2) := d1
      rw [bV_ok d1, e201_352]
    · rw [e] at d1 r16 ⊢
      show rn L xs (d + 3 * n + 8) 201 198 _ [] σ = _
      rw [e201_198 (d + 3 * n + 7), c_in (by omega) (by omega) (by omega), i32_ixn (by omega), r20, ← hg0, bV_ok a1', c_in (by omega) (by omega) (by omega), r16, show (5 : Int32) = i32 ((5 : Nat) : Int) from rfl, c2_ne (by omega) (by omega) (by omega) (by omega), c_t (by omega), e201_231 (d + 3 * n + 7), e201_233 (d + 3 * n + 7)]
      have d1 : rn L xs (d + 3 * n + 7) 199 0 [.ref 94, .int 11] [] s1 = some (.inl none, s2) := d1
      rw [bV_ok d1, e201_352]
  · rw [hkd]
    exact ⟨x1, CA.to _ _ _ _ a3 (fun i i1 i2 => d4.1 i i2), rfl⟩
end CODETWO
