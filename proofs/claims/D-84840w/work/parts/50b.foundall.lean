/-! WHAT WAS FOUND, plainly: all functions at once -/
section ALLCG
variable {σ τ : tvS} {K1 K2 g : Nat} {T : tyJ} {T0f T2f : Nat → tyJ} {D : pgD} {G : sgD} {m : Nat}
theorem CGf.congr {rg rg' : rgD} {N : Nat} {c : Nat → Nat} (h : CGf D G rg N c σ g) (h1 : rg'.nK g = rg.nK g) (h2 : rg'.ow g = rg.ow g) (h3 : ∀ q, D.bP g ≤ q → q < D.bP (g + 1) → rg'.nu q = rg.nu q) (h4 : ∀ j, D.bF g ≤ j → j < D.bF (g + 1) → rg'.kp j = rg.kp j) : CGf D G rg' N c σ g := by
  have hgl : rg'.gl g = rg.gl g := by unfold rgD.gl; rw [h1, h2]
  obtain ⟨fst, bl, ⟨a1, a2, a3, a4, a5, a6, a7⟩, b1, c1, d1, e1, f1⟩ := h
  refine ⟨fst, bl, ⟨by rw [h1]; exact a1, by rw [h1]; exact a2, a3, a4, a5, a6, fun k hk => by rw [h2]; exact a7 k (by rw [← h1]; exact hk)⟩, fun q i q1 q2 hi => by rw [h3 q q1 q2, h1]; exact b1 q i q1 q2 hi, by rw [hgl]; exact c1, d1, e1, fun j j1 j2 => by rw [h4 j j1 j2, h1]; exact f1 j j1 j2⟩
theorem CGm.congr {rg rg' : rgD} {N : Nat} {r : Nat → Nat} (h : CGm D G rg N r τ g) (h1 : rg'.nK g = rg.nK g) (h2 : rg'.ow g = rg.ow g) (h3 : ∀ q, D.bP g ≤ q → q < D.bP (g + 1) → rg'.nu q = rg.nu q) (h4 : ∀ j, D.bF g ≤ j → j < D.bF (g + 1) → rg'.kp j = rg.kp j) : CGm D G rg' N r τ g := by
  have hgl : rg'.gl g = rg.gl g := by unfold rgD.gl; rw [h1, h2]
  obtain ⟨a1, b1, c1, d1, pt, by', e1, f1⟩ := h
  refine ⟨by rw [hgl, h1, h2]; exact a1, fun q i q1 q2 hi => by rw [h3 q q1 q2]; exact b1 q i q1 q2 hi, c1, d1, pt, by', e1, fun j j1 j2 => by rw [h4 j j1 j2]; exact f1 j j1 j2⟩
theorem FNGr.congr {rg rg' : rgD} (h : FNGr rg D K1 K2 g G T0f T2f T σ τ) (h1 : rg'.nK g = rg.nK g) (h2 : rg'.ow g = rg.ow g) (h3 : ∀ q, D.bP g ≤ q → q < D.bP (g + 1) → rg'.nu q = rg.nu q) (h4 : ∀ j, D.bF g ≤ j → j < D.bF (g + 1) → rg'.kp j = rg.kp j) : FNGr rg' D K1 K2 g G T0f T2f T σ τ := by
  obtain ⟨Gg, T1, T', n0, fst, kc0, rf, cf0, kf0, Bm, pe0, bl, R, ow, pe, pt, by', kc, cf, kg, kf, gf, gk, σa, τ1, σ', τ', σ2, τ2, a1, a2, a3, a4, a5, a6, a7, a8, a9, a10, a11, a12, e1, e2, e3, e4, e5⟩ := h
  exact ⟨Gg, T1, T', n0, fst, kc0, rf, cf0, kf0, Bm, pe0, bl, R, ow, pe, pt, by', kc, cf, kg, kf, gf, gk, σa, τ1, σ', τ', σ2, τ2, a1, a2, a3, a4, a5, a6, a7, a8, a9, a10, a11, a12, by rw [h1]; exact e1, fun k => by rw [h2]; exact e2 k, fun q i q1 q2 => by rw [h3 q q1 q2]; exact e3 q i q1 q2, fun j j1 j2 => by rw [h4 j j1 j2]; exact e4 j j1 j2, e5⟩
theorem PGF.whose (hF : PGF D m) {g g' q : Nat} (h1 : D.bP g ≤ q) (h2 : q < D.bP (g + 1)) (h3 : D.bP g' ≤ q) (h4 : q < D.bP (g' + 1)) (hg : g ≤ D.fc) (hg' : g' ≤ D.fc) : g = g' := by
  by_cases c : g < g'
  · have := (hF.up (g' - (g + 1)) (g + 1) (by omega)).1
    rw [show g + 1 + (g' - (g + 1)) = g' by omega] at this; omega
  · by_cases c' : g' < g
    · have := (hF.up (g - (g' + 1)) (g' + 1) (by omega)).1
      rw [show g' + 1 + (g - (g' + 1)) = g by omega] at this; omega
    · omega
theorem PGF.whoseF (hF : PGF D m) {g g' q : Nat} (h1 : D.bF g ≤ q) (h2 : q < D.bF (g + 1)) (h3 : D.bF g' ≤ q) (h4 : q < D.bF (g' + 1)) (hg : g ≤ D.fc) (hg' : g' ≤ D.fc) : g = g' := by
  by_cases c : g < g'
  · have := (hF.up (g' - (g + 1)) (g + 1) (by omega)).2.2.1
    rw [show g + 1 + (g' - (g + 1)) = g' by omega] at this; omega
  · by_cases c' : g' < g
    · have := (hF.up (g - (g' + 1)) (g' + 1) (by omega)).2.2.1
      rw [show g' + 1 + (g - (g' + 1)) = g by omega] at this; omega
    · omega
theorem TYB.cga {cp : Nat → List (Nat × Nat)} {bS vs us sc : Nat → Nat} {cl : Nat → List Nat} {Rc Rm : Nat → Nat → Prop} (hF : PGF D m) (hB : TYB D m K1 K2 cp bS vs us sc cl (D.fc + 1) G Rc Rm T0f T2f T σ τ) (hbF : D.bF (D.fc + 1) ≤ 200) : ∃ rg : rgD, ∀ g, g ≤ D.fc → CGf D G rg T.1.1 (yC T) σ g ∧ CGm D G rg T.2.1.1 T.2.1.2.2.1 τ g ∧ FNGr rg D K1 K2 g G T0f T2f T σ τ := by
  have h0 : ∀ g, ∃ rg : rgD, g ≤ D.fc → CGf D G rg T.1.1 (yC T) σ g ∧ CGm D G rg T.2.1.1 T.2.1.2.2.1 τ g ∧ FNGr rg D K1 K2 g G T0f T2f T σ τ := fun g => by
    by_cases c : g ≤ D.fc
    · obtain ⟨rg, h⟩ := hB.cg hF c hbF
      exact ⟨rg, fun _ => h⟩
    · exact ⟨(fun _ => 0, fun _ _ => 0, fun _ _ => 0, fun _ => []), fun h => absurd h c⟩
  obtain ⟨F, hFF⟩ := Classical.axiomOfChoice h0
  have h1 : ∀ q, ∃ g, ∀ g', g' ≤ D.fc → D.bP g' ≤ q → q < D.bP (g' + 1) → g' = g := fun q => by
    by_cases c : ∃ g, g ≤ D.fc ∧ D.bP g ≤ q ∧ q < D.bP (g + 1)
    · obtain ⟨g, c1, c2, c3⟩ := c
      exact ⟨g, fun g' k1 k2 k3 => hF.whose k2 k3 c2 c3 k1 c1⟩
    · exact ⟨0, fun g' k1 k2 k3 => absurd ⟨g', k1, k2, k3⟩ c⟩
  obtain ⟨Q, hQ⟩ := Classical.axiomOfChoice h1
  have h2 : ∀ q, ∃ g, ∀ g', g' ≤ D.fc → D.bF g' ≤ q → q < D.bF (g' + 1) → g' = g := fun q => by
    by_cases c : ∃ g, g ≤ D.fc ∧ D.bF g ≤ q ∧ q < D.bF (g + 1)
    · obtain ⟨g, c1, c2, c3⟩ := c
      exact ⟨g, fun g' k1 k2 k3 => hF.whoseF k2 k3 c2 c3 k1 c1⟩
    · exact ⟨0, fun g' k1 k2 k3 => absurd ⟨g', k1, k2, k3⟩ c⟩
  obtain ⟨J, hJ⟩ := Classical.axiomOfChoice h2
  refine ⟨(fun g => (F g).nK g, fun g => (F g).ow g, fun q => (F (Q q)).nu q, fun j => (F (J j)).kp j), fun g hg => ?_⟩
  obtain ⟨a, b, c⟩ := hFF g hg
  exact ⟨a.congr rfl rfl (fun q q1 q2 => by show (F (Q q)).nu q = _; rw [← hQ q g hg q1 q2]) (fun j j1 j2 => by show (F (J j)).kp j = _; rw [← hJ j g hg j1 j2]), b.congr rfl rfl (fun q q1 q2 => by show (F (Q q)).nu q = _; rw [← hQ q g hg q1 q2]) (fun j j1 j2 => by show (F (J j)).kp j = _; rw [← hJ j g hg j1 j2]), c.congr rfl rfl (fun q q1 q2 => by show (F (Q q)).nu q = _; rw [← hQ q g hg q1 q2]) (fun j j1 j2 => by show (F (J j)).kp j = _; rw [← hJ j g hg j1 j2])⟩
end ALLCG
