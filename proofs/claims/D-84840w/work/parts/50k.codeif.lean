/-! CODE: if, let, case -/
section CODEIF
variable {L : Nat} {xs : Nat → Int32} {σ σ' σ0 τ0 : tvS} {K1 K2 N f a n : Nat} {C : tG} {c : Nat → Nat} {cf : Int} {D : pgD} {G : sgD} {rg : rgD} {cd : cdD} {m : Nat} {cp : Nat → List (Nat × Nat)} {dp : Nat → Nat}
/-- a place to be filled in, and it is filled in -/
theorem gap_code {sl : Nat → Nat} (h : CDS K1 K2 N C c f cf a σ0 σ) (ha : a + 1 < 131072) (x : Int32) (d : Nat) :
    ∃ σ', rn L xs (d + 3) 208 0 [.ref 94, .int x] [] σ = some (.inl (some (.int (i32 ((a + 1 : Nat) : Int)))), σ') ∧ CDS K1 K2 N C c f cf (a + 2) σ0 σ' ∧ rd σ' 95 a = x ∧ CEX sl a σ σ' := by
  obtain ⟨s1, a1, a2, a3, a4, a5, _⟩ := put_two (L := L) (xs := xs) (sl := sl) h ha x 0 d
  refine ⟨s1, ?_, a2, a3, a5⟩
  rw [e208_0 (d + 2), bV_ok a1, a2.2.2.1, show (1 : Int32) = i32 1 from rfl, i32_sub]
  have : (((a + 2 : Nat) : Int) - 1) = ((a + 1 : Nat) : Int) := by omega
  rw [this]
theorem fill_code {sl : Nat → Nat} {g : Nat} (h : CDS K1 K2 N C c f cf a σ0 σ) (hg : g < a) (ha : a < 131072) (d : Nat) :
    ∃ σ', rn L xs (d + 1) 209 0 [.ref 94, .int (i32 (g : Int))] [] σ = some (.inl none, σ') ∧ CDS K1 K2 N C c f cf a σ0 σ' ∧ rd σ' 95 g = i32 (a : Int) ∧ (∀ i, i ≠ g → rd σ' 95 i = rd σ 95 i) ∧ CEX sl g σ σ' := by
  obtain ⟨h1, h2, h3, h4, h5, h6, h7, h8⟩ := h
  have hle := h2.le (k := 95) (M := 131072) (by decide)
  have w : frW [95] σ (wr σ 95 g (i32 (a : Int))) := frW_wr rfl
  refine ⟨wr σ 95 g (i32 (a : Int)), ?_, ⟨h1.T (w.T [] [] rfl) rfl ⟨rfl, rfl, rfl, rfl⟩ (fun _ _ _ => rfl), h2.fr w, by rw [wr_nek (by decide)]; exact h3, by rw [w.ln]; exact h4, by rw [wr_nek (by decide)]; exact h5, by rw [wr_nek (by decide)]; exact h6, h7.trans ((w.G [95]).sub rfl rfl), fun i i1 i2 i3 => by rw [wr_nek (by decide)]; exact h8 i i1 i2 i3⟩, wr_self _ _ _ _, fun i hi => wr_nei hi, ⟨fun i hi => wr_nei (by omega), fun v => .inl (wr_nek (by decide)), fun j hj i => wr_nek (by omega)⟩⟩
  rw [e209_0, c_in (by omega) (by omega) (by omega), i32_ixn (by omega), h3]
theorem slot_code {v h : Nat} (hC : CDS K1 K2 N C c f cf a σ0 σ) (hs : cd.sl v = h) : CDS K1 K2 N C c f cf a σ0 (wr σ 99 v (i32 (h : Int))) ∧ CEX cd.sl a σ (wr σ 99 v (i32 (h : Int))) ∧ rd (wr σ 99 v (i32 (h : Int))) 99 v = i32 (cd.sl v : Int) := by
  obtain ⟨h1, h2, h3, h4, h5, h6, h7, h8⟩ := hC
  have w : frW [99] σ (wr σ 99 v (i32 (h : Int))) := frW_wr rfl
  refine ⟨⟨h1.T (w.T [] [] rfl) rfl ⟨rfl, rfl, rfl, rfl⟩ (fun _ _ _ => rfl), h2.fr w, by rw [wr_nek (by decide)]; exact h3, by rw [w.ln]; exact h4, by rw [wr_nek (by decide)]; exact h5, by rw [wr_nek (by decide)]; exact h6, h7.trans ((w.G [95]).sub rfl rfl), fun i i1 i2 i3 => by rw [wr_nek (by decide)]; exact h8 i i1 i2 i3⟩, ⟨fun i _ => wr_nek (by decide), fun u => ?_, fun j hj i => wr_nek (by omega)⟩, by rw [wr_self, hs]⟩
  by_cases e : u = v
  · rw [e, wr_self, hs]; exact .inr rfl
  · exact .inl (wr_nei e)
theorem in_let {p : Nat} (hE : CEN D G rg cd m N c cp dp σ0 τ0) (hf : f ≤ D.fc) (IH : PTC L xs K1 K2 N C c D rg cd dp f cf σ0 n) (h1 : D.bP f ≤ p) (h2 : p < D.bP (f + 1)) (hfn : cd.fn D p = cf) (hdp : 100 ≤ dp p + (n + 1)) (hK : D.K p = 19) (hC : CDS K1 K2 N C c f cf a σ0 σ) (hS : SLS D cd cf p σ) (hz : a + sumF (cqF D rg cd f cf) (D.st p) (p - D.st p) + 10 ≤ 131000) (d : Nat) :
    ∃ (σ' : tvS) (k0 k1 x y : Nat), rn L xs (d + 3 * n + 8) 201 0 [.ref 94, .int (i32 (p : Int)), .int (i32 (cd.hg p : Int))] [] σ = some (.inl none, σ') ∧ CDS K1 K2 N C c f cf (y + 2) σ0 σ' ∧ D.kd p = [k0, k1] ∧ CA D rg cd (rd σ' 95) f n k0 a x ∧ CA D rg cd (rd σ' 95) f n k1 x y ∧ rd σ' 95 y = 23 ∧ rd σ' 95 (y + 1) = 1 ∧ CEX cd.sl a σ σ' ∧ y ≤ a + sumF (cqF D rg cd f cf) (D.st p) (p - D.st p) := by
  obtain ⟨u1, u2, u3, u4, u5, u6⟩ := hE.up hf
  have hp := (hE.1.2.2 f hf).2.2.1 p h1 h2
  obtain ⟨k0, k1, hkd⟩ := kd_two (D := D) (p := p) (by rw [hp.2.2.1 (by omega), hK]; rfl)
  have hcn := hp.2.1
  rw [hkd] at hcn
  obtain ⟨c1, c2, c3, c4, c5, c6, c7⟩ := hcn
  have c7 : k1 + 1 = p := c7
  obtain ⟨z1, z2, z3, z4, z5, z6, z7, z8⟩ := hE.kid hf h1 h2 (by omega) (show (D.kd p)[0]? = some k0 by rw [hkd]; rfl)
  obtain ⟨y1, y2, y3, y4, y5, y6, y7, y8⟩ := hE.kid hf h1 h2 (by omega) (show (D.kd p)[1]? = some k1 by rw [hkd]; rfl)
  have sn0 : D.sn p 0 = [] := by unfold pgD.sn; rw [if_neg (by omega), if_neg (by omega), if_neg (by omega)]
  have sn1 : D.sn p 1 = [D.vl p] := by unfold pgD.sn; rw [if_neg (by omega), if_pos ⟨hK, rfl⟩]
  have hg0 : cd.hg k0 = cd.hg p := by rw [z7]; unfold hgw; rw [if_neg (by omega), if_neg (by omega), if_neg (by omega)]; rfl
  have hg1 : cd.hg k1 = cd.hg p + 1 := by rw [y7]; unfold hgw; rw [if_neg (by omega), if_neg (by omega), if_neg (by omega)]
  have hslv := (hE.2.2.1.2.2.2 f p hf h1 h2).2.1 hK
  have hbd := hp.2.2.2.2.2.2.2 (D.vl p) (by unfold pgD.bd; rw [if_neg (by omega), if_pos hK]; exact List.mem_cons_self)
  have e1 := sumF_kid (w := cqF D rg cd f cf) (s := D.st p) (k := k0) (k' := p) (by omega) (by omega)
  have e2 : sumF (cqF D rg cd f cf) (k0 + 1) (p - (k0 + 1)) = sumF (cqF D rg cd f cf) (D.st k1) (k1 + 1 - D.st k1) := by rw [c4, c7]
  have e0 : sumF (cqF D rg cd f cf) (D.st p) (k0 + 1 - D.st p) = sumF (cqF D rg cd f cf) (D.st k0) (k0 + 1 - D.st k0) := by rw [c1]
  rw [e0, e2] at e1
  have hr := (hE.2.1.2 p (by omega)).2.1 (by omega)
  have r0 := (hr 0 (by omega)).1
  have r1 := (hr 1 (by omega)).1
  rw [hkd] at r0 r1
  have r27 := ((hE.2.1.2 p (by omega)).2.2.2.2.1 (.inr (.inr (.inl hK)))).1
  obtain ⟨s1, x1, a1, a2, a3, a4, a5⟩ := IH k0 a (d + 1) σ z1 (by omega) (z5.trans hfn) (by omega) hC (hS.kid z8 (fun v hv => by rw [sn0] at hv; cases hv)) (by omega)
  have a1' : rn L xs (d + 3 * n + 7) 198 0 [.ref 94, .int (i32 (k0 : Int)), .int (i32 (cd.hg k0 : Int)), jv, jv] [] σ = some (.inl none, s1) := by
    rw [show d + 3 * n + 7 = d + 1 + 3 * n + 6 by omega]; exact a1
  obtain ⟨q1, q2, q3⟩ := slot_code (v := D.vl p) (h := cd.hg p) a2 hslv
  obtain ⟨s2, x2, b1, b2, b3, b4, b5⟩ := IH k1 x1 (d + 1) (wr s1 99 (D.vl p) (i32 (cd.hg p : Int))) y1 (by omega) (y5.trans hfn) (by omega) q1 (((hS.go a4).go q2).kid y8 (fun v hv => by
    rw [sn1] at hv
    rw [List.mem_singleton.mp hv]; exact q3)) (by omega)
  have b1' : rn L xs (d + 3 * n + 7) 198 0 [.ref 94, .int (i32 (k1 : Int)), .int (i32 (cd.hg k1 : Int)), jv, jv] [] (wr s1 99 (D.vl p) (i32 (cd.hg p : Int))) = some (.inl none, s2) := by
    rw [show d + 3 * n + 7 = d + 1 + 3 * n + 6 by omega]; exact b1
  have lt1 := CA.lt _ _ _ _ a3
  have lt2 := CA.lt _ _ _ _ b3
  obtain ⟨s3, d1, d2, d3, d4, d5, _⟩ := put_two (L := L) (xs := xs) (sl := cd.sl) b2 (by omega) 23 1 (d + 3 * n + 5)
  refine ⟨s3, k0, k1, x1, x2, ?_, d2, hkd, CA.to _ _ _ _ a3 (fun i i1 i2 => by rw [d5.1 i (by omega), b4.1 i i2, wr_nek (by decide)]), CA.to _ _ _ _ b3 (fun i i1 i2 => d5.1 i i2), d3, d4, ((a4.trans q2 (by omega)).trans b4 (by omega)).trans d5 (by omega), by omega⟩
  rw [in_go hE hf h1 h2 hC _ (d + 3 * n + 7), hK]
  show rn L xs (d + 3 * n + 8) 201 267 _ [] σ = _
  rw [e201_267 (d + 3 * n + 7), c_in (by omega) (by omega) (by omega), i32_ixn (by omega), hC.2.2.2.2.2.2.1.1 20 rfl, r0]
  show bV (rn L xs (d + 3 * n + 7) 198 0 [.ref 94, .int (i32 (k0 : Int)), .int (i32 (cd.hg p : Int)), jv, jv] [] σ) _ X0 = _
  rw [← hg0, bV_ok a1', c_in (by omega) (by omega) (by omega), a2.2.2.2.2.2.2.1.1 27 rfl, r27, c_in (by omega) (by omega) (by omega), c_in (by omega) (by omega) (by omega), i32_ixn (by omega), a2.2.2.2.2.2.2.1.1 21 rfl, r1, hg0]
  show bV (rn L xs (d + 3 * n + 7) 198 0 [.ref 94, .int (i32 (k1 : Int)), .int (i32 (cd.hg p : Int) + 1), jv, jv] [] (wr s1 99 (D.vl p) (i32 (cd.hg p : Int)))) _ X0 = _
  rw [i32_up, ← hg1, bV_ok b1', bV_ok d1, e201_352]
theorem in_if {p : Nat} (hE : CEN D G rg cd m N c cp dp σ0 τ0) (hf : f ≤ D.fc) (IH : PTC L xs K1 K2 N C c D rg cd dp f cf σ0 n) (h1 : D.bP f ≤ p) (h2 : p < D.bP (f + 1)) (hfn : cd.fn D p = cf) (hdp : 100 ≤ dp p + (n + 1)) (hK : D.K p = 18) (hC : CDS K1 K2 N C c f cf a σ0 σ) (hS : SLS D cd cf p σ) (hz : a + sumF (cqF D rg cd f cf) (D.st p) (p - D.st p) + 10 ≤ 131000) (d : Nat) :
    ∃ (σ' : tvS) (k0 k1 k2 x y b : Nat), rn L xs (d + 3 * n + 8) 201 0 [.ref 94, .int (i32 (p : Int)), .int (i32 (cd.hg p : Int))] [] σ = some (.inl none, σ') ∧ CDS K1 K2 N C c f cf b σ0 σ' ∧ D.kd p = [k0, k1, k2] ∧ CA D rg cd (rd σ' 95) f n k0 a x ∧ rd σ' 95 x = 20 ∧ rd σ' 95 (x + 1) = i32 ((y + 2 : Nat) : Int) ∧ CA D rg cd (rd σ' 95) f n k1 (x + 2) y ∧ rd σ' 95 y = 21 ∧ rd σ' 95 (y + 1) = i32 (b : Int) ∧ CA D rg cd (rd σ' 95) f n k2 (y + 2) b ∧ CEX cd.sl a σ σ' ∧ b ≤ a + sumF (cqF D rg cd f cf) (D.st p) (p - D.st p) + 4 := by
  obtain ⟨u1, u2, u3, u4, u5, u6⟩ := hE.up hf
  have hp := (hE.1.2.2 f hf).2.2.1 p h1 h2
  obtain ⟨k0, k1, k2, hkd⟩ := kd_three (D := D) (p := p) (by rw [hp.2.2.1 (by omega), hK]; rfl)
  have hcn := hp.2.1
  rw [hkd] at hcn
  obtain ⟨c1, c2, c3, c4, c5, c6, c7, c8, c9, c10⟩ := hcn
  have c10 : k2 + 1 = p := c10
  obtain ⟨z1, z2, z3, z4, z5, z6, z7, z8⟩ := hE.kid hf h1 h2 (by omega) (show (D.kd p)[0]? = some k0 by rw [hkd]; rfl)
  obtain ⟨y1, y2, y3, y4, y5, y6, y7, y8⟩ := hE.kid hf h1 h2 (by omega) (show (D.kd p)[1]? = some k1 by rw [hkd]; rfl)
  obtain ⟨t1, t2, t3, t4, t5, t6, t7, t8⟩ := hE.kid hf h1 h2 (by omega) (show (D.kd p)[2]? = some k2 by rw [hkd]; rfl)
  have sn0 : ∀ w, D.sn p w = [] := fun w => by unfold pgD.sn; rw [if_neg (by omega), if_neg (by omega), if_neg (by omega)]
  have hgw18 : ∀ w h, hgw 18 w h = h := fun w h => by unfold hgw; rw [if_neg (by decide), if_pos rfl]
  rw [hK, hgw18] at z7 y7 t7
  have e1 := sumF_kid (w := cqF D rg cd f cf) (s := D.st p) (k := k0) (k' := p) (by omega) (by omega)
  have e2 := sumF_kid (w := cqF D rg cd f cf) (s := k0 + 1) (k := k1) (k' := p) (by omega) (by omega)
  have e3 : sumF (cqF D rg cd f cf) (k1 + 1) (p - (k1 + 1)) = sumF (cqF D rg cd f cf) (D.st k2) (k2 + 1 - D.st k2) := by rw [c7, c10]
  have e4 : sumF (cqF D rg cd f cf) (k0 + 1) (k1 + 1 - (k0 + 1)) = sumF (cqF D rg cd f cf) (D.st k1) (k1 + 1 - D.st k1) := by rw [c4]
  have e0 : sumF (cqF D rg cd f cf) (D.st p) (k0 + 1 - D.st p) = sumF (cqF D rg cd f cf) (D.st k0) (k0 + 1 - D.st k0) := by rw [c1]
  rw [e2, e0, e3, e4] at e1
  have hr := (hE.2.1.2 p (by omega)).2.1 (by omega)
  have r0 := (hr 0 (by omega)).1
  have r1 := (hr 1 (by omega)).1
  have r2 := (hr 2 (by omega)).1
  rw [hkd] at r0 r1 r2
  obtain ⟨s1, x, a1, a2, a3, a4, a5⟩ := IH k0 a d σ z1 (by omega) (z5.trans hfn) (by omega) hC (hS.kid z8 (fun v hv => by rw [sn0] at hv; cases hv)) (by omega)
  have lt1 := CA.lt _ _ _ _ a3
  obtain ⟨s2, g1, g2, g3, g4⟩ := gap_code (L := L) (xs := xs) (sl := cd.sl) a2 (by omega) 20 (d + 3 * n + 3)
  obtain ⟨s3, y, b1, b2, b3, b4, b5⟩ := IH k1 (x + 2) d s2 y1 (by omega) (y5.trans hfn) (by omega) g2 (((hS.go a4).go g4).kid y8 (fun v hv => by rw [sn0] at hv; cases hv)) (by omega)
  have lt2 := CA.lt _ _ _ _ b3
  obtain ⟨s4, i1, i2, i3, i4⟩ := gap_code (L := L) (xs := xs) (sl := cd.sl) b2 (by omega) 21 (d + 3 * n + 3)
  obtain ⟨s5, j1, j2, j3, j4, j5⟩ := fill_code (L := L) (xs := xs) (sl := cd.sl) (g := x + 1) i2 (by omega) (by omega) (d + 3 * n + 5)
  obtain ⟨s6, b, m1, m2, m3, m4, m5⟩ := IH k2 (y + 2) d s5 t1 (by omega) (t5.trans hfn) (by omega) j2 (((((hS.go a4).go g4).go b4).go i4 |>.go j5).kid t8 (fun v hv => by rw [sn0] at hv; cases hv)) (by omega)
  have lt3 := CA.lt _ _ _ _ m3
  obtain ⟨s7, n1, n2, n3, n4, n5⟩ := fill_code (L := L) (xs := xs) (sl := cd.sl) (g := y + 1) m2 (by omega) (by omega) (d + 3 * n + 5)
  -- rows
  have q6 : ∀ i, i < y + 2 → i ≠ y + 1 → i ≠ x + 1 → rd s7 95 i = rd s4 95 i := fun i k1 k2 k3 => by rw [n4 i k2, m4.1 i k1, j4 i k3]
  refine ⟨s7, k0, k1, k2, x, y, b, ?_, n2, hkd, CA.to _ _ _ _ a3 (fun i k1 k2 => ?_), ?_, ?_, CA.to _ _ _ _ b3 (fun i k1 k2 => ?_), ?_, n3, CA.to _ _ _ _ m3 (fun i k1 k2 => ?_), ?_, by omega⟩
  · rw [in_go hE hf h1 h2 hC _ (d + 3 * n + 7), hK]
    show rn L xs (d + 3 * n + 8) 201 258 _ [] σ = _
    have p207 : rn L xs (d + 3 * n + 7) 207 0 [.ref 94, .int (i32 (p : Int)), .int (i32 (cd.hg p : Int)), jv, jv] [] σ = some (.inl none, s7) := by
      rw [e207_0 (d + 3 * n + 6), c_in (by omega) (by omega) (by omega), i32_ixn (by omega), hC.2.2.2.2.2.2.1.1 20 rfl, r0]
      show bV (rn L xs (d + 3 * n + 6) 198 0 [.ref 94, .int (i32 (k0 : Int)), .int (i32 (cd.hg p : Int)), jv, jv] [] σ) _ X0 = _
      rw [← z7, bV_ok a1, bI_ok g1, c_in (by omega) (by omega) (by omega), g2.2.2.2.2.2.2.1.1 21 rfl, r1, z7]
      show bV (rn L xs (d + 3 * n + 6) 198 0 [.ref 94, .int (i32 (k1 : Int)), .int (i32 (cd.hg p : Int)), jv, jv] [] s2) _ X0 = _
      rw [← y7, bV_ok b1, bI_ok i1, bV_ok j1, c_in (by omega) (by omega) (by omega), j2.2.2.2.2.2.2.1.1 22 rfl, r2, y7]
      show bV (rn L xs (d + 3 * n + 6) 198 0 [.ref 94, .int (i32 (k2 : Int)), .int (i32 (cd.hg p : Int)), jv, jv] [] s5) _ X0 = _
      rw [← t7, bV_ok m1, bV_ok n1]
    rw [e201_258 (d + 3 * n + 7), bV_ok p207, e201_352]
  · rw [q6 i (by omega) (by omega) (by omega), i4.1 i (by omega), b4.1 i (by omega), g4.1 i k2]
  · rw [q6 x (by omega) (by omega) (by omega), i4.1 x (by omega), b4.1 x (by omega)]; exact g3
  · rw [n4 (x + 1) (by omega), m4.1 (x + 1) (by omega)]; exact j3
  · rw [q6 i (by omega) (by omega) (by omega), i4.1 i k2]
  · rw [q6 y (by omega) (by omega) (by omega)]; exact i3
  · rw [n4 i (by omega)]
  · exact (((((a4.trans g4 (by omega)).trans b4 (by omega)).trans i4 (by omega)).trans j5 (by omega)).trans m4 (by omega)).trans n5 (by omega)
end CODEIF
