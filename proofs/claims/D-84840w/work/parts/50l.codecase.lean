/-! CODE: case -/
section CODECASE
variable {L : Nat} {xs : Nat → Int32} {σ σ' σ0 τ0 : tvS} {K1 K2 N f a n : Nat} {C : tG} {c : Nat → Nat} {cf : Int} {D : pgD} {G : sgD} {rg : rgD} {cd : cdD} {m : Nat} {cp : Nat → List (Nat × Nat)} {dp : Nat → Nat}
theorem in_case {p : Nat} (hE : CEN D G rg cd m N c cp dp σ0 τ0) (hf : f ≤ D.fc) (IH : PTC L xs K1 K2 N C c D rg cd dp f cf σ0 n) (h1 : D.bP f ≤ p) (h2 : p < D.bP (f + 1)) (hfn : cd.fn D p = cf) (hdp : 100 ≤ dp p + (n + 1)) (hK : D.K p = 20) (hC : CDS K1 K2 N C c f cf a σ0 σ) (hS : SLS D cd cf p σ) (hz : a + sumF (cqF D rg cd f cf) (D.st p) (p - D.st p) + 10 ≤ 131000) (d : Nat) :
    ∃ (σ' : tvS) (k0 k1 k2 x y b : Nat), rn L xs (d + 3 * n + 8) 201 0 [.ref 94, .int (i32 (p : Int)), .int (i32 (cd.hg p : Int))] [] σ = some (.inl none, σ') ∧ CDS K1 K2 N C c f cf b σ0 σ' ∧ D.kd p = [k0, k1, k2] ∧ CA D rg cd (rd σ' 95) f n k0 a x ∧ rd σ' 95 x = 22 ∧ rd σ' 95 (x + 1) = i32 ((y + 4 : Nat) : Int) ∧ CA D rg cd (rd σ' 95) f n k2 (x + 2) y ∧ rd σ' 95 y = 23 ∧ rd σ' 95 (y + 1) = 2 ∧ rd σ' 95 (y + 2) = 21 ∧ rd σ' 95 (y + 3) = i32 (b : Int) ∧ CA D rg cd (rd σ' 95) f n k1 (y + 4) b ∧ CEX cd.sl a σ σ' ∧ b ≤ a + sumF (cqF D rg cd f cf) (D.st p) (p - D.st p) + 6 := by
  obtain ⟨u1, u2, u3, u4, u5, u6⟩ := hE.up hf
  have hp := (hE.1.2.2 f hf).2.2.1 p h1 h2
  obtain ⟨k0, k1, k2, hkd⟩ := kd_three (D := D) (p := p) (by rw [hp.2.2.1 (by omega), hK]; rfl)
  have hcn := hp.2.1
  rw [hkd] at hcn
  obtain ⟨c1, c2, c3, c4, c5, c6, c7, c8, c9, c10⟩ := hcn
  have c10 : k2 + 1 = p := c10
  obtain ⟨z1, z2, z3, z4, z5, z6, z7, z8⟩ := hE.kid hf h1 h2 (by omega) (show (D.kd p)[0]? = some k0 by rw [hkd]; rfl)
  obtain ⟨y1, y2, y3, y4, y5, y6, y7, y8⟩ := hE.kid hf h1 h2 (by omega) (show (D.kd p)[1]? = some k1 by rw [hkd]; rfl)
  obtain ⟨t1, t2, t3, t4, t5, t6, t7, t8⟩ := hE.kid hf h1 h2 (by omega) (show (D.kd p)[2]? = some k2 by rw [hkd]; rfl)
  have sn0 : ∀ w, w < 2 → D.sn p w = [] := fun w hw => by unfold pgD.sn; rw [if_neg (by omega), if_neg (by omega), if_neg (by omega)]
  have sn2 : D.sn p 2 = [D.vl p + 1, D.vl p] := by unfold pgD.sn; rw [if_neg (by omega), if_neg (by omega), if_pos ⟨hK, rfl⟩]
  have hgw0 : ∀ w h, w < 2 → hgw 20 w h = h := fun w h hw => by unfold hgw; rw [if_neg (by decide), if_neg (by decide), if_pos rfl, if_neg (by omega)]
  have hgw2 : ∀ h, hgw 20 2 h = h + 2 := fun h => rfl
  rw [hK, hgw0 _ _ (by omega)] at z7 y7
  rw [hK, hgw2] at t7
  obtain ⟨sv0, sv1⟩ := (hE.2.2.1.2.2.2 f p hf h1 h2).2.2 hK
  have hbd0 := hp.2.2.2.2.2.2.2 (D.vl p) (by unfold pgD.bd; rw [if_neg (by omega), if_neg (by omega), if_pos hK]; exact List.mem_cons_self)
  have hbd1 := hp.2.2.2.2.2.2.2 (D.vl p + 1) (by unfold pgD.bd; rw [if_neg (by omega), if_neg (by omega), if_pos hK]; exact List.mem_cons_of_mem _ List.mem_cons_self)
  have e1 := sumF_kid (w := cqF D rg cd f cf) (s := D.st p) (k := k0) (k' := p) (by omega) (by omega)
  have e2 := sumF_kid (w := cqF D rg cd f cf) (s := k0 + 1) (k := k1) (k' := p) (by omega) (by omega)
  have e3 : sumF (cqF D rg cd f cf) (k1 + 1) (p - (k1 + 1)) = sumF (cqF D rg cd f cf) (D.st k2) (k2 + 1 - D.st k2) := by rw [c7, c10]
  have e4 : sumF (cqF D rg cd f cf) (k0 + 1) (k1 + 1 - (k0 + 1)) = sumF (cqF D rg cd f cf) (D.st k1) (k1 + 1 - D.st k1) := by rw [c4]
  have e0 : sumF (cqF D rg cd f cf) (D.st p) (k0 + 1 - D.st p) = sumF (cqF D rg cd f cf) (D.st k0) (k0 + 1 - D.st k0) := by rw [c1]
  rw [e2, e0, e3, e4] at e1
  have hr := (hE.2.1.2 p (by omega)).2.1 (by omega)
  have r0 := (hr 0 (by omega)).1
  have r1 := (hr 1 (by omega)).1
  have r2 := (hr 2 (by omega)).1
  rw [hkd] at r0 r1 r2
  have r27 := ((hE.2.1.2 p (by omega)).2.2.2.2.1 (.inr (.inr (.inr hK)))).1
  obtain ⟨s1, x, a1, a2, a3, a4, a5⟩ := IH k0 a d σ z1 (by omega) (z5.trans hfn) (by omega) hC (hS.kid z8 (fun v hv => by rw [sn0 0 (by omega)] at hv; cases hv)) (by omega)
  have lt1 := CA.lt _ _ _ _ a3
  obtain ⟨s2, g1, g2, g3, g4⟩ := gap_code (L := L) (xs := xs) (sl := cd.sl) a2 (by omega) 22 (d + 3 * n + 3)
  obtain ⟨q1, q2, q3⟩ := slot_code (v := D.vl p) (h := cd.hg p) g2 sv0
  obtain ⟨o1, o2, o3⟩ := slot_code (v := D.vl p + 1) (h := cd.hg p + 1) q1 sv1
  have hq3 : rd (wr (wr s2 99 (D.vl p) (i32 (cd.hg p : Int))) 99 (D.vl p + 1) (i32 ((cd.hg p + 1 : Nat) : Int))) 99 (D.vl p) = i32 (cd.sl (D.vl p) : Int) := by rw [wr_nei (by omega)]; exact q3
  obtain ⟨s3, y, b1, b2, b3, b4, b5⟩ := IH k2 (x + 2) d (wr (wr s2 99 (D.vl p) (i32 (cd.hg p : Int))) 99 (D.vl p + 1) (i32 ((cd.hg p + 1 : Nat) : Int))) t1 (by omega) (t5.trans hfn) (by omega) o1 (((((hS.go a4).go g4).go q2).go o2).kid t8 (fun v hv => by
    rw [sn2] at hv
    rcases List.mem_cons.mp hv with e | e
    · rw [e]; exact o3
    · rw [List.mem_singleton.mp e]; exact hq3)) (by omega)
  have lt2 := CA.lt _ _ _ _ b3
  obtain ⟨s3b, p1, p2, p3, p4, p5, _⟩ := put_two (L := L) (xs := xs) (sl := cd.sl) b2 (by omega) 23 2 (d + 3 * n + 4)
  obtain ⟨s4, i1, i2, i3, i4⟩ := gap_code (L := L) (xs := xs) (sl := cd.sl) p2 (by omega) 21 (d + 3 * n + 3)
  obtain ⟨s5, j1, j2, j3, j4, j5⟩ := fill_code (L := L) (xs := xs) (sl := cd.sl) (g := x + 1) i2 (by omega) (by omega) (d + 3 * n + 5)
  obtain ⟨s6, b, m1, m2, m3, m4, m5⟩ := IH k1 (y + 2 + 2) d s5 y1 (by omega) (y5.trans hfn) (by omega) j2 ((((((((hS.go a4).go g4).go q2).go o2).go b4).go p5).go i4 |>.go j5).kid y8 (fun v hv => by rw [sn0 1 (by omega)] at hv; cases hv)) (by omega)
  have lt3 := CA.lt _ _ _ _ m3
  obtain ⟨s7, n1, n2, n3, n4, n5⟩ := fill_code (L := L) (xs := xs) (sl := cd.sl) (g := y + 2 + 1) m2 (by omega) (by omega) (d + 3 * n + 5)
  -- rows
  have q6 : ∀ i, i < y + 2 + 2 → i ≠ y + 2 + 1 → i ≠ x + 1 → rd s7 95 i = rd s4 95 i := fun i k1 k2 k3 => by rw [n4 i k2, m4.1 i k1, j4 i k3]
  refine ⟨s7, k0, k1, k2, x, y, b, ?_, n2, hkd, CA.to _ _ _ _ a3 (fun i k1 k2 => ?_), ?_, ?_, CA.to _ _ _ _ b3 (fun i k1 k2 => ?_), ?_, ?_, ?_, n3, CA.to _ _ _ _ m3 (fun i k1 k2 => ?_), ?_, by omega⟩
  · rw [in_go hE hf h1 h2 hC _ (d + 3 * n + 7), hK]
    show rn L xs (d + 3 * n + 8) 201 322 _ [] σ = _
    have p210 : rn L xs (d + 3 * n + 7) 210 0 [.ref 94, .int (i32 (p : Int)), .int (i32 (cd.hg p : Int)), jv, jv] [] σ = some (.inl none, s7) := by
      rw [e210_0 (d + 3 * n + 6), c_in (by omega) (by omega) (by omega), i32_ixn (by omega), hC.2.2.2.2.2.2.1.1 20 rfl, r0]
      show bV (rn L xs (d + 3 * n + 6) 198 0 [.ref 94, .int (i32 (k0 : Int)), .int (i32 (cd.hg p : Int)), jv, jv] [] σ) _ X0 = _
      rw [← z7, bV_ok a1, bI_ok g1, c_in (by omega) (by omega) (by omega), g2.2.2.2.2.2.2.1.1 27 rfl, r27, c_in (by omega) (by omega) (by omega), c_in (by omega) (by omega) (by omega), i32_ixn (by omega), i32_up, c_in (by omega) (by omega) (by omega), c_in (by omega) (by omega) (by omega), i32_ixn (by omega), g2.2.2.2.2.2.2.1.1 22 rfl, r2, z7, i32_up, show (2 : Int32) = i32 2 from rfl, i32_add, show ((cd.hg p : Int) + 2) = ((cd.hg p + 2 : Nat) : Int) by omega]
      show bV (rn L xs (d + 3 * n + 6) 198 0 [.ref 94, .int (i32 (k2 : Int)), .int (i32 ((cd.hg p + 2 : Nat) : Int)), jv, jv] [] _) _ X0 = _
      rw [← t7, bV_ok b1]
      have p1 : rn L xs (d + 3 * n + 6) 200 0 [.ref 94, .int 23, .int (i32 2)] [] s3 = some (.inl none, s3b) := p1
      rw [bV_ok p1, bI_ok i1, bV_ok j1, c_in (by omega) (by omega) (by omega), j2.2.2.2.2.2.2.1.1 21 rfl, r1]
      show bV (rn L xs (d + 3 * n + 6) 198 0 [.ref 94, .int (i32 (k1 : Int)), .int (i32 (cd.hg p : Int)), jv, jv] [] s5) _ X0 = _
      rw [← y7, bV_ok m1, bV_ok n1]
    rw [e201_322 (d + 3 * n + 7), bV_ok p210, e201_352]
  · rw [q6 i (by omega) (by omega) (by omega), i4.1 i (by omega), p5.1 i (by omega), b4.1 i (by omega), wr_nek (by decide), wr_nek (by decide), g4.1 i k2]
  · rw [q6 x (by omega) (by omega) (by omega), i4.1 x (by omega), p5.1 x (by omega), b4.1 x (by omega), wr_nek (by decide), wr_nek (by decide)]; exact g3
  · rw [n4 (x + 1) (by omega), m4.1 (x + 1) (by omega)]; exact j3
  · rw [q6 i (by omega) (by omega) (by omega), i4.1 i (by omega), p5.1 i k2]
  · rw [q6 y (by omega) (by omega) (by omega), i4.1 y (by omega)]; exact p3
  · rw [q6 (y + 1) (by omega) (by omega) (by omega), i4.1 (y + 1) (by omega)]; exact p4
  · rw [q6 (y + 2) (by omega) (by omega) (by omega)]; exact i3
  · rw [n4 i (by omega)]
  · exact (((((((((a4.trans g4 (by omega)).trans q2 (by omega)).trans o2 (by omega)).trans b4 (by omega)).trans p5 (by omega)).trans i4 (by omega)).trans j5 (by omega)).trans m4 (by omega)).trans n5 (by omega))
end CODECASE
