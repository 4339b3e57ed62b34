/-! CODE: kids of a part -/
section CODEKIDS
variable {L : Nat} {xs : Nat → Int32} {σ σ' σ0 τ0 : tvS} {K1 K2 N f a n : Nat} {C : tG} {c : Nat → Nat} {cf : Int} {D : pgD} {G : sgD} {rg : rgD} {cd : cdD} {m : Nat} {cp : Nat → List (Nat × Nat)} {dp : Nat → Nat}
/-- slots of what is in scope, and of the fn at hand -/
def SLS (D : pgD) (cd : cdD) (cf : Int) (p : Nat) (σ : tvS) : Prop := ∀ v, v ∈ D.sl p → cd.vo v = cf → rd σ 99 v = i32 (cd.sl v : Int)
/-- code of parts that lie so deep -/
def PTC (L : Nat) (xs : Nat → Int32) (K1 K2 N : Nat) (C : tG) (c : Nat → Nat) (D : pgD) (rg : rgD) (cd : cdD) (dp : Nat → Nat) (f : Nat) (cf : Int) (σ0 : tvS) (n : Nat) : Prop :=
  ∀ (p a d : Nat) (σ : tvS), D.bP f ≤ p → p < D.bP (f + 1) → cd.fn D p = cf → 100 ≤ dp p + n → CDS K1 K2 N C c f cf a σ0 σ → SLS D cd cf p σ → a + sumF (cqF D rg cd f cf) (D.st p) (p + 1 - D.st p) ≤ 131000 →
    ∃ (σ' : tvS) (b : Nat), rn L xs (d + 3 * n + 6) 198 0 [.ref 94, .int (i32 (p : Int)), .int (i32 (cd.hg p : Int)), jv, jv] [] σ = some (.inl none, σ') ∧ CDS K1 K2 N C c f cf b σ0 σ' ∧ CA D rg cd (rd σ' 95) f n p a b ∧ CEX cd.sl a σ σ' ∧ b ≤ a + sumF (cqF D rg cd f cf) (D.st p) (p + 1 - D.st p)
theorem SLS.go {p : Nat} {b : Nat} (h : SLS D cd cf p σ) (g : CEX cd.sl b σ σ') : SLS D cd cf p σ' := fun v h1 h2 => by
  rcases g.2.1 v with k | k
  · rw [k]; exact h v h1 h2
  · exact k
theorem SLS.kid {p k w : Nat} (h : SLS D cd cf p σ) (hs : D.sl k = D.sn p w ++ D.sl p) (hn : ∀ v, v ∈ D.sn p w → rd σ 99 v = i32 (cd.sl v : Int)) : SLS D cd cf k σ := fun v h1 h2 => by
  rw [hs] at h1
  rcases List.mem_append.mp h1 with q | q
  · exact hn v q
  · exact h v q h2
/-- a kid: where it lies, how deep, how high; its fn -/
theorem CEN.kid {p k w : Nat} (hE : CEN D G rg cd m N c cp dp σ0 τ0) (hf : f ≤ D.fc) (h1 : D.bP f ≤ p) (h2 : p < D.bP (f + 1)) (h17 : D.K p ≠ 17) (hk : (D.kd p)[w]? = some k) : D.bP f ≤ k ∧ k < p ∧ D.bP f ≤ D.st k ∧ D.st k ≤ k ∧ cd.fn D k = cd.fn D p ∧ dp k = dp p + 1 ∧ cd.hg k = hgw (D.K p) w (cd.hg p) ∧ D.sl k = D.sn p w ++ D.sl p := by
  obtain ⟨hF, hR, hH, _, _, ⟨_, hW⟩, _, hd1, hd2, _⟩ := hE
  have hPf := hF.2.2 f hf
  have hp := hPf.2.2.1 p h1 h2
  obtain ⟨z1, z2, z3, z4⟩ := contN.at _ _ _ _ _ hp.2.1 hk
  have hs := hp.2.2.2.2.2.1 w k hk
  have hb := hp.1.2.2.1
  have u := (hF.up (D.fc + 1 - (f + 1)) (f + 1) (by omega)).1
  rw [show f + 1 + (D.fc + 1 - (f + 1)) = D.fc + 1 by omega] at u
  refine ⟨by omega, z3, by omega, z2, ?_, hd2 f p w k hf h1 h2 hk, hH.2.1 f p w k hf h1 h2 hk, hs⟩
  have hWp := hW p (by omega)
  show (match D.sl k with | [] => -1 | v :: _ => cd.vo v) = _
  rw [hs]
  unfold pgD.sn
  rw [if_neg h17]
  by_cases c19 : D.K p = 19 ∧ w = 1
  · rw [if_pos c19]; exact hWp.2.2.1 c19.1
  · rw [if_neg c19]
    by_cases c20 : D.K p = 20 ∧ w = 2
    · rw [if_pos c20]; exact (hWp.2.2.2 c20.1).2
    · rw [if_neg c20]; rfl
theorem sumF_kid {w : Nat → Nat} {s k k' : Nat} (h1 : s ≤ k) (h2 : k + 1 ≤ k') : sumF w s (k' - s) = sumF w s (k + 1 - s) + sumF w (k + 1) (k' - (k + 1)) := by
  have := sumF_add (w := w) (k' - (k + 1)) s (k + 1 - s)
  rw [show k + 1 - s + (k' - (k + 1)) = k' - s by omega, show s + (k + 1 - s) = k + 1 by omega] at this
  exact this
/-- a row of kids: their code side by side; h0, how high the first begins -/
theorem two_code {p k0 k1 : Nat} (hE : CEN D G rg cd m N c cp dp σ0 τ0) (hf : f ≤ D.fc) (IH : PTC L xs K1 K2 N C c D rg cd dp f cf σ0 n) (h1 : D.bP f ≤ p) (h2 : p < D.bP (f + 1)) (hfn : cd.fn D p = cf) (hdp : 100 ≤ dp p + (n + 1)) (hK : D.K p = 4 ∨ D.K p = 16 ∨ D.K p = 7 ∨ (8 ≤ D.K p ∧ D.K p ≤ 15)) (hkd : D.kd p = [k0, k1]) (hC : CDS K1 K2 N C c f cf a σ0 σ) (hS : SLS D cd cf p σ) (hz : a + sumF (cqF D rg cd f cf) (D.st p) (p - D.st p) + 10 ≤ 131000) (x : Int32) (d : Nat) :
    ∃ (σ' : tvS) (b : Nat), rn L xs (d + 3 * n + 7) 204 0 [.ref 94, .int (i32 (p : Int)), .int (i32 (cd.hg p : Int)), .int x] [] σ = some (.inl none, σ') ∧ CDS K1 K2 N C c f cf (b + 1) σ0 σ' ∧ KCH (CA D rg cd (rd σ' 95) f n) (D.kd p) a b ∧ rd σ' 95 b = x ∧ CEX cd.sl a σ σ' ∧ b ≤ a + sumF (cqF D rg cd f cf) (D.st p) (p - D.st p) := by
  have hE0 := hE
  obtain ⟨hF, hR, hH, _⟩ := hE
  have hb4 := hF.1
  have hPf := hF.2.2 f hf
  have u := (hF.up (D.fc + 1 - (f + 1)) (f + 1) (by omega)).1
  rw [show f + 1 + (D.fc + 1 - (f + 1)) = D.fc + 1 by omega] at u
  have hp := hPf.2.2.1 p h1 h2
  have hcn := hp.2.1
  rw [hkd] at hcn
  obtain ⟨c1, c2, c3, c4, c5, c6, c7⟩ := hcn
  have c7 : k1 + 1 = p := c7
  obtain ⟨z1, z2, z3, z4, z5, z6, z7, z8⟩ := hE0.kid hf h1 h2 (by omega) (show (D.kd p)[0]? = some k0 by rw [hkd]; rfl)
  obtain ⟨y1, y2, y3, y4, y5, y6, y7, y8⟩ := hE0.kid hf h1 h2 (by omega) (show (D.kd p)[1]? = some k1 by rw [hkd]; rfl)
  have sn0 : ∀ w, D.sn p w = [] := fun w => by
    unfold pgD.sn; rw [if_neg (by omega), if_neg (by omega), if_neg (by omega)]
  have hg0 : cd.hg k0 = cd.hg p := by rw [z7]; unfold hgw; rw [if_neg (by omega), if_neg (by omega), if_neg (by omega)]; rfl
  have hg1 : cd.hg k1 = cd.hg p + 1 := by rw [y7]; unfold hgw; rw [if_neg (by omega), if_neg (by omega), if_neg (by omega)]
  have e1 := sumF_kid (w := cqF D rg cd f cf) (s := D.st p) (k := k0) (k' := p) (by omega) (by omega)
  have e2 : sumF (cqF D rg cd f cf) (k0 + 1) (p - (k0 + 1)) = sumF (cqF D rg cd f cf) (D.st k1) (k1 + 1 - D.st k1) := by rw [c4, c7]
  have e0 : sumF (cqF D rg cd f cf) (D.st p) (k0 + 1 - D.st p) = sumF (cqF D rg cd f cf) (D.st k0) (k0 + 1 - D.st k0) := by rw [c1]
  rw [e0, e2] at e1
  have rk : ∀ s : tvS, frG FCD [95] σ0 s → rd s 20 p = i32 (k0 : Int) ∧ rd s 21 p = i32 (k1 : Int) := fun s w => by
    have hr := (hR.2 p (by omega)).2.1 (by omega)
    have r0 := (hr 0 (by omega)).1
    have r1 := (hr 1 (by omega)).1
    rw [hkd] at r0 r1
    rw [w.1 20 rfl, w.1 21 rfl]
    exact ⟨r0, r1⟩
  obtain ⟨s1, x1, a1, a2, a3, a4, a5⟩ := IH k0 a d σ z1 (by omega) (z5.trans hfn) (by omega) hC (hS.kid z8 (fun v hv => by rw [sn0] at hv; cases hv)) (by omega)
  obtain ⟨s2, x2, b1, b2, b3, b4, b5⟩ := IH k1 x1 d s1 y1 (by omega) (y5.trans hfn) (by omega) a2 ((hS.go a4).kid y8 (fun v hv => by rw [sn0] at hv; cases hv)) (by omega)
  have lt1 := CA.lt _ _ _ _ a3
  have lt2 := CA.lt _ _ _ _ b3
  obtain ⟨s3, d1, d2, d3, d4, d5⟩ := put_code (L := L) (xs := xs) (sl := cd.sl) b2 (by omega) x (d + 3 * n + 5)
  refine ⟨s3, x2, ?_, d2, ?_, d3, (a4.trans b4 (by omega)).trans d4 (by omega), by omega⟩
  · rw [e204_0 (d + 3 * n + 6), c_in (by omega) (by omega) (by omega), i32_ixn (by omega), (rk σ hC.2.2.2.2.2.2.1).1, ← hg0, bV_ok a1, c_in (by omega) (by omega) (by omega), (rk s1 a2.2.2.2.2.2.2.1).2, hg0, i32_up, ← hg1, bV_ok b1, bV_ok d1]
  · rw [hkd]
    exact ⟨x1, CA.to _ _ _ _ a3 (fun i i1 i2 => by rw [d4.1 i (by omega), b4.1 i i2]), x2, CA.to _ _ _ _ b3 (fun i i1 i2 => d4.1 i i2), rfl⟩
end CODEKIDS
