/-! REGIONS: what both have of a function's types, for its regions -/
section REGVIEW
variable {σ τ : tvS} {K1 K2 Bc Bm f : Nat} {Rc Rm : Nat → Nat → Prop} {pd : List (Nat × List Nat × (Nat → Nat))} {n u a rc rl : Nat} {T T0 : tyJ} {D : pgD} {G : sgD} {m : Nat}
theorem mat.nat {x y : Int32} (hT : TJ K1 K2 Bc Bm f Rc Rm pd n u a rc T σ τ) (h : mat Bc Bm T x y) : x = i32 (ix x : Int) ∧ ix x < T.1.1 ∧ y = i32 (ix y : Int) ∧ ix y < T.2.1.1 ∧ T.2.2 (ix x) (ix y) ∧ cuN Bc (ix x) ∧ cuN Bm (ix y) := by
  obtain ⟨p, q, h1, h2, h3, h4, h5⟩ := h
  have hz := hT.1.2.2.2.2.1 p q h3
  have hb := hT.2.2.2.2
  have b1 := hb.1
  have b2 := hb.2.2.1
  have e1 : ix x = p := by rw [h1, i32_ixn (by omega)]
  have e2 : ix y = q := by rw [h2, i32_ixn (by omega)]
  rw [e1, e2]
  exact ⟨h1, hz.1, h2, hz.2, h3, h4, h5⟩
theorem PFf.tv {v : Nat} (hF : PFf D m f) (h1 : D.tV f ≤ v) (h2 : v < D.tV (f + 1)) : tvd D f (D.bP (f + 1)) v := by
  by_cases c : v < D.tV f + D.bk f
  · exact .inl ⟨h1, c⟩
  · obtain ⟨p, p1, p2, p3⟩ := hF.2.2.2.2.2.1 v (by omega) h2
    have hp := hF.2.2.1 p p1 p2
    by_cases k17 : D.K p = 17
    · have e := p3
      unfold pgD.bd at e
      rw [if_pos k17] at e
      exact .inr (.inl ⟨D.vl p, (hp.2.2.2.2.2.2.1 k17).1, (hp.2.2.2.2.2.2.1 k17).2, List.mem_singleton.mp e⟩)
    · have k : D.K p = 19 ∨ D.K p = 20 := by
        have e := p3
        unfold pgD.bd at e
        rw [if_neg k17] at e
        by_cases k19 : D.K p = 19
        · exact .inl k19
        · rw [if_neg k19] at e
          by_cases k20 : D.K p = 20
          · exact .inr k20
          · rw [if_neg k20] at e; cases e
      have hl := hp.2.2.1 (by omega)
      have hl2 : 0 < (D.kd p).length := by
        rw [hl]
        rcases k with k | k <;> rw [k] <;> decide
      obtain ⟨c, hc⟩ : ∃ c, (D.kd p)[0]? = some c := ⟨(D.kd p)[0], List.getElem?_eq_getElem hl2⟩
      have hk := contN.at _ _ _ _ _ hp.2.1 hc
      exact .inr (.inr ⟨p, c, p1, p2, k, hc, by omega, p3⟩)
/-- region types of older functions are boxed -/
def OLB (D : pgD) (G : sgD) (f : Nat) (T : tyJ) : Prop := ∀ g, g < f → ∀ i, i < G.ng g → 2 ≤ (yG T).1 (yC T (G.XC g (D.bk g + 1 + i)))
theorem TYI.reg (hF : PGF D m) (hf : f ≤ D.fc) (hI : TYI K1 K2 Bc Bm f Rc Rm D G rl (D.bP (f + 1)) (D.bP (f + 1)) n u a pd rc T σ τ) (hd : ∀ q, D.bP f ≤ q → q < D.bP (f + 1) → D.K q = 3 → D.vl q < f → ∃ n1 : Nat, rd τ 181 q = i32 (n1 : Int) ∧ n1 < 60000) :
    TYc D f T.1.1 σ ∧ TYm D f T.2.1.1 τ ∧ CLc D G f T.1.1 σ ∧ CLm D G f T.2.1.1 τ ∧ MTf D G f T.2.2 σ τ ∧ (∀ v, D.tV f ≤ v → v < D.tV (f + 1) → cuN Bm (vM τ v)) ∧ (∀ p, D.bP f ≤ p → p < D.bP (f + 1) → cuN Bm (oM τ p)) ∧ cuN Bm (rM τ f) ∧ ∀ q i, D.bP f ≤ q → q < D.bP (f + 1) → i < D.np G f q → cuN Bm (pnM D τ q i) := by
  have hb4 := hF.1
  have hbl := (hF.le (D.fc + 1 - (f + 1)) (f + 1) (by omega))
  have hPf := hF.2.2 f hf
  obtain ⟨hT, hR, hO, ⟨Nk, ce, Nm, cm, hC⟩, hS⟩ := hI
  obtain ⟨s1, s2, s3, s4⟩ := hS
  have o1 : ∀ p, D.bP f ≤ p → p < D.bP (f + 1) → _ := fun p h1 h2 => (s1 p h1 h2).nat hT
  have v1 : ∀ v, D.tV f ≤ v → v < D.tV (f + 1) → _ := fun v h1 h2 => (s2 v (hPf.tv h1 h2)).nat hT
  have r1 := s4.nat hT
  obtain ⟨c1, c2, c3, c4, c5, c6⟩ := hC
  have hbud := hT.2.2.2.2
  have bb1 := hbud.1
  have bb2 := hbud.2.2.1
  have cal : ∀ q, D.bP f ≤ q → q < D.bP (f + 1) → D.K q = 3 → D.vl q < f → ∃ n0 n1 : Nat, rd σ 69 q = i32 (n0 : Int) ∧ n0 + D.cn G q ≤ Nk ∧ rd τ 181 q = i32 (n1 : Int) ∧ n1 + D.cn G q ≤ Nm ∧ n0 ≤ 32768 ∧ n1 ≤ 60000 ∧ ∀ i, i < D.cn G q → T.2.2 (ce (n0 + i)) (cm (n1 + i)) ∧ cuN Bc (ce (n0 + i)) ∧ cuN Bm (cm (n1 + i)) := fun q q1 q2 q3 q4 => by
    obtain ⟨n0, e1, e2, e3, e4⟩ := c6 q q1 q2 q3 q4
    obtain ⟨n2, f1, f2⟩ := hd q q1 q2 q3 q4
    have := c1.2.1
    have hkm := c3.2.1
    rcases e4 with ⟨g1, _⟩ | ⟨n1, g1, g2, g3⟩
    · rw [g1] at f1
      have := (i32_inj (by omega) (by omega) (by omega) (by omega)).mp f1
      omega
    · exact ⟨n0, n1, e1, e2, g1, g2, by omega, by omega, fun i hi => ⟨(g3 i hi).1, e3 i hi, (g3 i hi).2⟩⟩
  have cTe : ∀ q i, D.bP f ≤ q → q < D.bP (f + 1) → D.K q = 3 → D.vl q < f → i < D.cn G q → T.2.2 (cT σ q i) (cM τ q i) ∧ cuN Bm (cM τ q i) := fun q i q1 q2 q3 q4 hi => by
    obtain ⟨n0, n1, e1, e2, e3, e4, e5, e6, e7⟩ := cal q q1 q2 q3 q4
    obtain ⟨k1, k2, k3⟩ := e7 i hi
    have hz := hT.1.2.2.2.2.1 _ _ k1
    have x1 : cT σ q i = ce (n0 + i) := by
      unfold cT
      rw [e1, i32_ixn (by omega), c1.2.2 (n0 + i) (by omega), i32_ixn (by omega)]
    have x2 : cM τ q i = cm (n1 + i) := by
      unfold cM
      rw [e3, i32_ixn (by omega), c3.2.2 (n1 + i) (by omega), i32_ixn (by omega)]
    rw [x1, x2]; exact ⟨k1, k3⟩
  have pnz : ∀ q i, D.bP f ≤ q → q < D.bP (f + 1) → i < D.np G f q → T.2.2 (pnC D σ q i) (pnM D τ q i) ∧ cuN Bm (pnM D τ q i) := fun q i q1 q2 hi => by
    unfold pgD.np at hi
    unfold pnC pnM
    by_cases k : D.K q = 4 ∨ D.K q = 16 ∨ D.K q = 17
    · rw [if_pos k, if_pos k]
      have := o1 q q1 q2
      exact ⟨this.2.2.2.2.1, this.2.2.2.2.2.2⟩
    · rw [if_neg k] at hi ⊢
      rw [if_neg k]
      by_cases k3 : D.K q = 3 ∧ D.vl q < f
      · rw [if_pos k3] at hi
        have hcn : D.cn G q = D.bk (D.vl q) + 1 + G.ng (D.vl q) := rfl
        exact cTe q _ q1 q2 k3.1 k3.2 (by omega)
      · rw [if_neg k3] at hi; omega
  refine ⟨⟨fun p h1 h2 => ⟨(o1 p h1 h2).1, (o1 p h1 h2).2.1⟩, fun p v h1 h2 hv => ?_, r1.1, r1.2.1⟩, ⟨fun p h1 h2 => ⟨(o1 p h1 h2).2.2.1, (o1 p h1 h2).2.2.2.1⟩, fun v h1 h2 => ⟨(v1 v h1 h2).2.2.1, (v1 v h1 h2).2.2.2.1⟩, r1.2.2.1, r1.2.2.2.1⟩, ⟨c2, fun p h1 h2 h3 h4 => ?_⟩, fun p h1 h2 h3 h4 => ?_, ⟨fun p h1 h2 => (o1 p h1 h2).2.2.2.2.1, fun p v h1 h2 hv => ?_, r1.2.2.2.2.1, fun q i q1 q2 hi => (pnz q i q1 q2 hi).1⟩, fun v h1 h2 => (v1 v h1 h2).2.2.2.2.2.2, fun p h1 h2 => (o1 p h1 h2).2.2.2.2.2.2, r1.2.2.2.2.2.2, fun q i q1 q2 hi => (pnz q i q1 q2 hi).2⟩
  · have hin := PFf.inV hPf hv h1 h2
    have := v1 v hin.1 hin.2
    exact ⟨by omega, this.1, this.2.1⟩
  · obtain ⟨n0, n1, e1, e2, e3, e4, e5, e6, e7⟩ := cal p h1 h2 h3 h4
    obtain ⟨g1, g2, g3, g4⟩ := hO (D.vl p) h4
    refine ⟨n0, e1, Nat.le_trans e2 c1.2.1, fun i hi => ?_, g1.2.2.2.2.2.2.1, g3⟩
    obtain ⟨k1, k2, k3⟩ := e7 i hi
    have hz := hT.1.2.2.2.2.1 _ _ k1
    have x1 : cT σ p i = ce (n0 + i) := by
      unfold cT
      rw [e1, i32_ixn (by omega), c1.2.2 (n0 + i) (by omega), i32_ixn (by omega)]
    rw [x1]
    exact ⟨c1.2.2 (n0 + i) (by omega), hz.1⟩
  · obtain ⟨n0, n1, e1, e2, e3, e4, e5, e6, e7⟩ := cal p h1 h2 h3 h4
    obtain ⟨g1, g2, g3, g4⟩ := hO (D.vl p) h4
    have := c3.2.1
    refine ⟨n1, e3, by omega, fun i hi => ?_, g2.2.2.2.2.2.2.1, g3⟩
    obtain ⟨k1, k2, k3⟩ := e7 i hi
    have hz := hT.1.2.2.2.2.1 _ _ k1
    have x2 : cM τ p i = cm (n1 + i) := by
      unfold cM
      rw [e3, i32_ixn (by omega), c3.2.2 (n1 + i) (by omega), i32_ixn (by omega)]
    rw [x2]
    exact ⟨c3.2.2 (n1 + i) (by omega), hz.2⟩
  · have hin := PFf.inV hPf hv h1 h2
    exact (v1 v hin.1 hin.2).2.2.2.2.1
theorem GHO.box (hF : PGF D m) (hf : f ≤ D.fc) (hg : GHO D G f (D.bP (f + 1)) (D.bP (f + 1)) T0 T σ) (hO : OLB D G f T0) {q i : Nat} (q1 : D.bP f ≤ q) (q2 : q < D.bP (f + 1)) (hi : i < D.np G f q) : 2 ≤ (yG T).1 (yC T (pnC D σ q i)) := by
  have hPf := hF.2.2 f hf
  have hp := hPf.2.2.1 q q1 q2
  obtain ⟨_, g2, g3, g4⟩ := hg
  have ex := g2 q q1 q2
  have at' : ∀ w, w < (D.kd q).length → ∃ c, (D.kd q)[w]? = some c := fun w hw => ⟨(D.kd q)[w], List.getElem?_eq_getElem hw⟩
  unfold pgD.np at hi
  unfold pnC
  by_cases k : D.K q = 4 ∨ D.K q = 16 ∨ D.K q = 17
  · rw [if_pos k]
    have hl := hp.2.2.1 (by omega)
    rcases k with k | k | k
    · rw [k] at hl
      obtain ⟨c, hc⟩ := at' 0 (by rw [hl]; decide)
      obtain ⟨b, hb⟩ := at' 1 (by rw [hl]; decide)
      rw [(ex.2.2.2.2.1 c b k hc hb).1]; decide
    · rw [k] at hl
      obtain ⟨c, hc⟩ := at' 0 (by rw [hl]; decide)
      obtain ⟨b, hb⟩ := at' 1 (by rw [hl]; decide)
      have hk := contN.at _ _ _ _ _ hp.2.1 hb
      have hlo := hp.1.2.2.1
      rw [ex.2.2.2.2.2.2 b (.inl k) hb]
      have e := ((g3 b (by omega) (by omega)).2 q 1 q1 q2 hb).2.2.2.1 k rfl c hc
      rw [e.1]; decide
    · rw [k] at hl
      obtain ⟨c, hc⟩ := at' 0 (by rw [hl]; decide)
      rw [((ex.2.2.2.2.2.1 c hc).2.2.2 k).1]; decide
  · rw [if_neg k] at hi ⊢
    by_cases k3 : D.K q = 3 ∧ D.vl q < f
    · rw [if_pos k3] at hi
      have hcn : D.cn G q = D.bk (D.vl q) + 1 + G.ng (D.vl q) := rfl
      obtain ⟨SL, im, h1, h2⟩ := g4 q q1 q2 k3.1 k3.2
      have hb := hO (D.vl q) k3.2 i hi
      rcases h2 (D.bk (D.vl q) + 1 + i) (by omega) with ⟨e, _⟩ | ⟨_, e1, e2⟩
      · omega
      · rw [e2]
        obtain ⟨a, b, _, _, e3⟩ := (h1 _ e1).1 hb
        rw [e3.1]; exact hb
    · rw [if_neg k3] at hi; omega
theorem BXm.of (hM : MTf D G f T.2.2 σ τ) (z : zG (yG T) (yC T) T.2.1.2.1 T.2.1.2.2.1 T.2.2) (h : ∀ q i, D.bP f ≤ q → q < D.bP (f + 1) → i < D.np G f q → 2 ≤ (yG T).1 (yC T (pnC D σ q i))) : BXm D G f T.2.1.2.1 T.2.1.2.2.1 τ := fun q i q1 q2 hi => by
  have := h q i q1 q2 hi
  rw [z.2.2.1 _ _ (hM.2.2.2 q i q1 q2 hi)] at this
  exact this
/-- parts and bodies of fns -/
theorem PGF.fnp (hF : PGF D m) (hf : f ≤ D.fc) : ∃ pt by' : Nat → Nat, FNP D f pt by' := by
  have hPf := hF.2.2 f hf
  have h : ∀ j, ∃ pb : Nat × Nat, D.bF f ≤ j → j < D.bF (f + 1) → D.bP f ≤ pb.1 ∧ pb.1 < D.bP (f + 1) ∧ D.K pb.1 = 17 ∧ D.vl pb.1 = j ∧ (D.kd pb.1)[0]? = some pb.2 := fun j => by
    by_cases c : D.bF f ≤ j ∧ j < D.bF (f + 1)
    · obtain ⟨p, p1, p2, p3, p4⟩ := hPf.2.2.2.2.1 j c.1 c.2
      have hl := (hPf.2.2.1 p p1 p2).2.2.1 (by omega)
      rw [p3] at hl
      have h0 : 0 < (D.kd p).length := by rw [hl]; decide
      exact ⟨(p, (D.kd p)[0]), fun _ _ => ⟨p1, p2, p3, p4, List.getElem?_eq_getElem h0⟩⟩
    · exact ⟨(0, 0), fun h1 h2 => absurd ⟨h1, h2⟩ c⟩
  obtain ⟨g, hg⟩ := Classical.skolem.mp h
  exact ⟨fun j => (g j).1, fun j => (g j).2, fun j h1 h2 => hg j h1 h2⟩
end REGVIEW
