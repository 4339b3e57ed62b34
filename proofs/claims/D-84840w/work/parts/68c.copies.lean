/-! WHAT WAS FOUND, plainly: copies of signatures; types of parts -/
section STYP
variable {σ τ : tvS} {K1 K2 g g' : Nat} {T T0 T2 T0' T2' : tyJ} {D : pgD} {G : sgD} {m : Nat} {rg : rgD} {bl bl' : List Nat} {pt by' pt' by'' : Nat → Nat}
theorem rgD.gl_in {x i : Nat} (h : i < (rg.gl g).length) : 1 ≤ (rg.gl g).getD i 0 ∧ (rg.gl g).getD i 0 ≤ rg.nK g ∧ rg.ow g ((rg.gl g).getD i 0 - 1) = -1 := by
  have hm : (rg.gl g).getD i 0 ∈ rg.gl g := by
    rw [List.getD_eq_getElem?_getD, List.getElem?_eq_getElem h]
    exact List.getElem_mem h
  obtain ⟨k, k1, k2, k3⟩ := (nfil_mem (rg.nK g)).mp hm
  rw [k3, Nat.add_sub_cancel]
  exact ⟨by omega, by omega, k2⟩
theorem VWf.blk (V : VWf K1 K2 D G rg g T0 T2 T bl pt by' σ τ) {k : Nat} (h1 : 1 ≤ k) (h2 : k ≤ rg.nK g) : bl.getD (k - 1) 0 < T2.1.1 := by
  obtain ⟨_, _, _, ⟨b1, _, _, b4, _⟩, _⟩ := V
  have hk : k - 1 < bl.length := by omega
  refine b4 _ ?_
  rw [List.getD_eq_getElem?_getD, List.getElem?_eq_getElem hk]
  exact List.getElem_mem hk
theorem VWf.kC (V : VWf K1 K2 D G rg g T0 T2 T bl pt by' σ τ) (hN : T.1.1 ≤ 122000) {k : Nat} (h1 : 1 ≤ k) (h2 : k ≤ rg.nK g) : (tsT T σ).kC g k = yC T (bl.getD (k - 1) 0) := by
  have hlt := V.blk h1 h2
  obtain ⟨⟨_, hx⟩, _, _, ⟨b1, _, b3, _, _⟩, _⟩ := V
  have hN2 := hx.2.2.1
  show yC T (ix (rd σ 81 (ix (rd σ 79 g) + (k - 1)))) = _
  have e : rd σ 81 (ix (rd σ 79 g) + (k - 1)) = i32 (bl.getD (k - 1) 0 : Nat) := b3.2.2.2.2 (k - 1) (by omega)
  rw [e, i32_ixn (by omega)]
theorem VWf.cl (V : VWf K1 K2 D G rg g T0 T2 T bl pt by' σ τ) {x : Nat} (hx : x < T2.1.1) : yC T x = yC T2 x := V.1.2.2.2.2.2.1 x hx
theorem VWf.rt (V : VWf K1 K2 D G rg g T0 T2 T bl pt by' σ τ) {x : Nat} (hx : x < T2.1.1) : rtB T2 (yC T2 x) := by
  obtain ⟨⟨⟨σ2, τ2, h⟩, _⟩, _⟩ := V
  exact ⟨h.plc.2.1 x hx, h.plc.1 x⟩
theorem VWf.gr (V : VWf K1 K2 D G rg g T0 T2 T bl pt by' σ τ) (hT : TJ0 K1 K2 T σ τ) : EXg (rtB T2) (tgT T2) (tgT T) := by
  obtain ⟨⟨⟨σ2, τ2, h⟩, hx⟩, _⟩ := V
  exact hx.graph h hT
theorem VWf.XCl (V : VWf K1 K2 D G rg g T0 T2 T bl pt by' σ τ) (hF : PGF D m) (hg : g ≤ D.fc) {i : Nat} (hi : i < D.bk g + 1 + G.ng g) : G.XC g i < T2.1.1 := by
  have hPf := hF.2.2 g hg
  have hb := fun k => V.blk (k := k)
  obtain ⟨_, ⟨_, v2, v3, _⟩, _, _, _, _, _, _, _, ⟨x1, x2, x3, x4⟩, _⟩ := V
  by_cases c : i < D.bk g
  · rw [x2 i c]
    have := hPf.1.2.1
    exact v2 _ (by omega) (by omega)
  · by_cases c2 : i = D.bk g
    · rw [c2, x3]; exact v3
    · have e : i = D.bk g + 1 + (i - D.bk g - 1) := by omega
      rw [e, x4 _ (by omega)]
      obtain ⟨y1, y2, _⟩ := rgD.gl_in (rg := rg) (g := g) (x := 0) (i := i - D.bk g - 1) (by omega)
      exact hb _ y1 y2
/-- a box below the bound, seen at the end -/
theorem VWf.bx (V : VWf K1 K2 D G rg g T0 T2 T bl pt by' σ τ) (hT : TJ0 K1 K2 T σ τ) {x k a b : Nat} (hk : 2 ≤ k) (h : bxT T2 x k a b) : x < T2.1.1 ∧ (tgT T).ki (yC T x) = k ∧ ((tgT T).ka (yC T x) = yC T a ∧ a < T2.1.1) ∧ (k ≠ 3 → (tgT T).kb (yC T x) = yC T b ∧ b < T2.1.1) := by
  have hG := V.gr hT
  have hcl := fun x => V.cl (x := x)
  have hrt := fun x => V.rt (x := x)
  obtain ⟨⟨⟨σ2, τ2, hJ⟩, _⟩, _⟩ := V
  obtain ⟨p1, p2, p3, p4, _⟩ := hJ.plc
  obtain ⟨h1, h2, h3⟩ := h
  have hx : x < T2.1.1 := by
    apply Classical.byContradiction
    intro q
    obtain ⟨q1, q2⟩ := p3 x (by omega)
    have h1 : (yG T2).1 (yC T2 x) = k := h1
    rw [q1, q2] at h1; omega
  have hr := hrt x hx
  obtain ⟨g1, g2, g3, _⟩ := hG _ hr
  have hki : (tgT T2).ki (yC T2 x) = k := h1
  have low : ∀ y z, y < T2.1.1 → yC T2 y = yC T2 z → z < T2.1.1 := fun y z hy e => by
    apply Classical.byContradiction
    intro q
    have := (p3 z (by omega)).1
    have := p2 y hy
    omega
  have h1' : 2 ≤ (yG T2).1 (yC T2 x) := by rw [h1]; exact hk
  obtain ⟨k1, k2⟩ := p4 _ hr.1 h1'
  have ha := low _ a k1 h2
  refine ⟨hx, by rw [hcl x hx, g1]; exact hki, ⟨?_, ha⟩, fun k3 => ?_⟩
  · rw [hcl x hx, hcl a ha, (g2 (by rw [hki]; exact hk)).1]; exact h2
  · have hb := low _ b (k2 (by rw [h1]; exact k3)) (h3 k3)
    refine ⟨?_, hb⟩
    rw [hcl x hx, hcl b hb, (g3 (by rw [hki]; exact hk) (by rw [hki]; exact k3)).1]; exact h3 k3
/-- a call: what is copied goes over -/
theorem VWf.hom (V : VWf K1 K2 D G rg g T0 T2 T bl pt by' σ τ) (V' : VWf K1 K2 D G rg g' T0' T2' T bl' pt' by'' σ τ) (hT : TJ0 K1 K2 T σ τ) (hx : exT T2'.1.1 T2'.2.1.1 T2' T0) (hF : PGF D m) (hg : g ≤ D.fc) {q : Nat} (h1 : D.bP g ≤ q) (h2 : q < D.bP (g + 1)) (h3 : D.K q = 3) (h4 : D.vl q = g') (hlt : g' < g) :
    ∃ (SG : Nat → Prop) (hm : Nat → Nat), HOMg (tgT T) SG hm ∧ ∀ i, i < D.cn G q → SG (yC T (G.XC g' i)) ∧ hm (yC T (G.XC g' i)) = yC T (cT σ q i) := by
  have hXl : ∀ i, i < D.cn G q → G.XC g' i < T2'.1.1 := fun i hi => V'.XCl hF (by omega) (by unfold pgD.cn at hi; rw [h4] at hi; exact hi)
  have hG' := V'.gr hT
  obtain ⟨SL, im, s1, s2⟩ := V.2.2.1 q h1 h2 h3 (by omega)
  obtain ⟨⟨σ2', τ2', hJ'⟩, _⟩ := V'.1
  obtain ⟨p1, p2, p3, p4, p5, p6⟩ := hJ'.plc
  obtain ⟨_, _, e3, _, e5, _, e7, e8⟩ := hx
  obtain ⟨i1, _, _, _, _, i0⟩ := hT.i1
  obtain ⟨i1', _⟩ := hJ'.i1
  have e5 : ∀ x, x < T2'.1.1 → yC T0 x = yC T2' x := e5
  -- covered: a number or in the list
  have cvd : ∀ u w, u < T2'.1.1 → cov (yG T0) (yC T0) SL im u w → ((yG T2').1 (yC T2' u) = 1 ∧ w = yC T2' u) ∨ ((yG T2').1 (yC T2' u) ≠ 1 ∧ yC T2' u ∈ SL ∧ w = im (yC T2' u)) := fun u w hu h => by
    unfold cov at h
    rw [e5 u hu, show (yG T0).1 (yC T2' u) = (yG T2').1 (yC T2' u) from e7 _ (p2 u hu)] at h
    exact h
  have kEq : ∀ c, rtB T2' c → (tgT T).ki c = (yG T2').1 c := fun c hc => (hG' c hc).1
  have inv : ∀ n c y, rtB T2' c → ((yG T2').1 c = 1 ∨ c ∈ SL) → (tgT T).rn n c y → rtB T2' y ∧ ((yG T2').1 y = 1 ∨ y ∈ SL) := by
    intro n
    induction n with
    | zero => intro c y hc hi e; have e : c = y := e; rw [← e]; exact ⟨hc, hi⟩
    | succ n ih =>
      intro c y hc hi ⟨z, ez, k⟩
      have ez' := (hG'.ed hc).1.mp ez
      have hz := (hG'.ed hc).2 ez'
      refine ih z y hz ?_ k
      rcases ez' with ⟨k1, k4, e⟩ | ⟨k1, e⟩ | ⟨k1, e⟩
      · have k1 : 2 ≤ (yG T2').1 c := k1
        rcases hi with hi | hi
        · omega
        · obtain ⟨a, b, c1, _, _⟩ := (s1 c hi).1 (by rw [show (yG T0).1 c = (yG T2').1 c from e7 c hc.1]; exact k1)
          rw [show (yG T0).2.1 c = (yG T2').2.1 c from (e8 c hc.1).1.1] at c1
          have e : z = yC T2' ((yG T2').2.1 c) := e
          rw [e]
          rcases cvd _ _ (p4 c hc.1 k1).1 c1 with q1 | q1
          · exact .inl q1.1
          · exact .inr q1.2.1
      · have k1 : (yG T2').1 c = 2 ∨ (yG T2').1 c = 4 := k1
        rcases hi with hi | hi
        · omega
        · obtain ⟨a, b, _, c1, _⟩ := (s1 c hi).1 (by rw [show (yG T0).1 c = (yG T2').1 c from e7 c hc.1]; omega)
          have c1 := c1 (by rw [show (yG T0).1 c = (yG T2').1 c from e7 c hc.1]; omega)
          rw [show (yG T0).2.2 c = (yG T2').2.2 c from (e8 c hc.1).1.2] at c1
          have e : z = yC T2' ((yG T2').2.2 c) := e
          rw [e]
          rcases cvd _ _ ((p4 c hc.1 (by omega)).2 (by omega)) c1 with q1 | q1
          · exact .inl q1.1
          · exact .inr q1.2.1
      · have k1 : (yG T2').1 c = 4 := k1
        rcases e with e | ⟨u, u1, u2⟩
        · exact .inl e
        · rcases hi with hi | hi
          · omega
          · obtain ⟨u', v1, v2⟩ := ((e8 c hc.1).2 hc.2 z).mpr ⟨u, u1, u2⟩
            have v2 : yC T0 u' = z := v2
            by_cases q1 : (yG T2').1 z = 1
            · exact .inl q1
            · have hk0 : (yG T0).1 (yC T0 u') ≠ 1 := by
                rw [v2, show (yG T0).1 z = (yG T2').1 z from e7 z hz.1]; exact q1
              obtain ⟨v, w, w1, _⟩ := (s1 c hi).2 u' v1 hk0
              rcases w1 with ⟨w2, _⟩ | ⟨_, w2, _⟩
              · exact absurd w2 hk0
              · rw [v2] at w2; exact .inr w2
  obtain ⟨SG, hSG⟩ : ∃ SG : Nat → Prop, SG = fun c => ∃ i, i < D.cn G q ∧ (tgT T).rc (yC T (G.XC g' i)) c := ⟨_, rfl⟩
  obtain ⟨hm, hhm⟩ : ∃ hm : Nat → Nat, hm = fun c => if (yG T).1 c = 1 then c else yC T (im c) := ⟨_, rfl⟩
  have base : ∀ i, i < D.cn G q → rtB T2' (yC T (G.XC g' i)) ∧ ((yG T2').1 (yC T (G.XC g' i)) = 1 ∨ yC T (G.XC g' i) ∈ SL) := fun i hi => by
    have hl := hXl i hi
    rw [V'.cl hl]
    refine ⟨V'.rt hl, ?_⟩
    have := s2 i hi
    rw [h4] at this
    rcases cvd _ _ hl this with q1 | q1
    · exact .inl q1.1
    · exact .inr q1.2.1
  have inS : ∀ c, SG c → rtB T2' c ∧ ((yG T2').1 c = 1 ∨ c ∈ SL) := fun c hc => by
    rw [hSG] at hc
    obtain ⟨i, hi, n, hn⟩ := hc
    obtain ⟨b1, b2⟩ := base i hi
    exact inv n _ _ b1 b2 hn
  have nxt : ∀ c y, SG c → (tgT T).ed c y → SG y := fun c y hc he => by
    rw [hSG] at hc ⊢
    obtain ⟨i, hi, n, hn⟩ := hc
    refine ⟨i, hi, n + 1, ?_⟩
    have app : ∀ n a, (tgT T).rn n a c → (tgT T).rn (n + 1) a y := by
      intro n
      induction n with
      | zero => intro a e; have e : a = c := e; subst e; exact ⟨y, he, rfl⟩
      | succ n ih => intro a ⟨z, z1, z2⟩; exact ⟨z, z1, ih z z2⟩
    exact app n _ hn
  have kT : ∀ c, rtB T2' c → ((yG T).1 c = 1 ↔ (yG T2').1 c = 1) := fun c hc => by rw [show (yG T).1 c = (yG T2').1 c from kEq c hc]
  -- the image of what is covered
  have him : ∀ u w, u < T2'.1.1 → cov (yG T0) (yC T0) SL im u w → hm (yC T2' u) = yC T w := fun u w hu h => by
    rw [hhm]
    show (if (yG T).1 (yC T2' u) = 1 then yC T2' u else yC T (im (yC T2' u))) = _
    rcases cvd u w hu h with ⟨q1, q2⟩ | ⟨q1, _, q2⟩
    · rw [if_pos ((kT _ (V'.rt hu)).mpr q1), q2]
      have e0 := (i1' _).mp q1
      rw [e0, i0]
    · rw [if_neg (fun k => q1 ((kT _ (V'.rt hu)).mp k)), q2]
  refine ⟨SG, hm, fun c hc => ?_, fun i hi => ⟨?_, ?_⟩⟩
  · obtain ⟨r1, r2⟩ := inS c hc
    have hk := kEq c r1
    have big : 2 ≤ (tgT T).ki c → ∃ a b, cov (yG T0) (yC T0) SL im ((yG T2').2.1 c) a ∧ ((tgT T).ki c ≠ 3 → cov (yG T0) (yC T0) SL im ((yG T2').2.2 c) b) ∧ bxT T2 (im c) ((tgT T).ki c) a b ∧ hm c = yC T (im c) ∧ c ∈ SL := fun k => by
      rcases r2 with r2 | r2
      · omega
      · have k0 : (yG T0).1 c = (tgT T).ki c := by rw [show (yG T0).1 c = (yG T2').1 c from e7 c r1.1, hk]
        obtain ⟨a, b, c1, c2, c3⟩ := (s1 c r2).1 (by rw [k0]; exact k)
        rw [show (yG T0).2.1 c = (yG T2').2.1 c from (e8 c r1.1).1.1] at c1
        rw [show (yG T0).2.2 c = (yG T2').2.2 c from (e8 c r1.1).1.2, k0] at c2
        rw [k0] at c3
        refine ⟨a, b, c1, c2, c3, ?_, r2⟩
        rw [hhm]
        show (if (yG T).1 c = 1 then c else yC T (im c)) = _
        rw [if_neg (fun q1 => by have q1 : (tgT T).ki c = 1 := q1; omega)]
    refine ⟨fun k => ?_, fun k k4 => ?_, fun k => ?_, fun k x hxl => ?_⟩
    · by_cases c1 : (tgT T).ki c = 1
      · rw [hhm]
        show (tgT T).ki (if (yG T).1 c = 1 then c else yC T (im c)) = _
        rw [if_pos (show (yG T).1 c = 1 from c1)]
      · obtain ⟨a, b, _, _, b3, b4, _⟩ := big (by omega)
        rw [b4]; exact (V.bx hT (by omega) b3).2.1
    · obtain ⟨a, b, b1, _, b3, b4, _⟩ := big k
      have hed : (tgT T).ed c ((tgT T).ka c) := .inl ⟨k, k4, rfl⟩
      refine ⟨nxt c _ hc hed, ?_⟩
      have k2 : 2 ≤ (yG T2').1 c := by rw [← hk]; exact k
      rw [b4, (V.bx hT k b3).2.2.1.1, ← him _ _ (p4 c r1.1 k2).1 b1, ((hG' c r1).2.1 k2).1]; rfl
    · have k' : 2 ≤ (tgT T).ki c := by omega
      obtain ⟨a, b, _, b2, b3, b4, _⟩ := big k'
      have hed : (tgT T).ed c ((tgT T).kb c) := .inr (.inl ⟨k, rfl⟩)
      refine ⟨nxt c _ hc hed, ?_⟩
      have k2 : 2 ≤ (yG T2').1 c := by rw [← hk]; exact k'
      have k3 : (tgT T).ki c ≠ 3 := by omega
      have k3' : (yG T2').1 c ≠ 3 := by rw [← hk]; exact k3
      rw [b4, ((V.bx hT k' b3).2.2.2 k3).1, ← him _ _ ((p4 c r1.1 k2).2 k3') (b2 k3), ((hG' c r1).2.2.1 k2 k3').1]; rfl
    · obtain ⟨a, b, _, _, b3, b4, b5⟩ := big (by omega)
      have hed : (tgT T).ed c x := .inr (.inr ⟨k, hxl⟩)
      refine ⟨nxt c _ hc hed, ?_⟩
      have hxR := ((hG' c r1).2.2.2 x).2 (((hG' c r1).2.2.2 x).1.mp hxl)
      by_cases q1 : (yG T2').1 x = 1
      · left
        rw [hhm]
        show (yG T).1 (if (yG T).1 x = 1 then x else yC T (im x)) = 1
        rw [if_pos ((kT x hxR).mpr q1)]; exact (kT x hxR).mpr q1
      · rcases ((hG' c r1).2.2.2 x).1.mp hxl with q2 | ⟨u, u1, u2⟩
        · exact absurd q2 q1
        · obtain ⟨u', v1, v2⟩ := ((e8 c r1.1).2 r1.2 x).mpr ⟨u, u1, u2⟩
          have v2 : yC T0 u' = x := v2
          have hk0 : (yG T0).1 (yC T0 u') ≠ 1 := by
            rw [v2, show (yG T0).1 x = (yG T2').1 x from e7 x hxR.1]; exact q1
          obtain ⟨v, w, w1, w2, w3⟩ := (s1 c b5).2 u' v1 hk0
          have hb := V.bx hT (by omega) b3
          obtain ⟨⟨σ2, τ2, hJ⟩, _⟩ := V.1
          have hv := (hJ.plc.2.2.2.2.1 _ _ w2).2
          have hgl := ((V.gr hT) _ (V.rt hb.1)).2.2.2
          rw [b4, V.cl hb.1]
          refine (hgl _).1.mpr (.inr ⟨v, w2, ?_⟩)
          rcases w1 with ⟨w4, _⟩ | ⟨_, w4, w5⟩
          · exact absurd w4 hk0
          · have hwl : w < T2.1.1 := by
              apply Classical.byContradiction
              intro q5
              have := (hJ.plc.2.2.1 w (by omega)).1
              have h6 := hJ.plc.2.1 v hv
              omega
            rw [hhm]
            show yC T2 v = (if (yG T).1 x = 1 then x else yC T (im x))
            rw [if_neg (fun k => q1 ((kT x hxR).mp k)), w3, ← V.cl hwl, w5, v2]
  · rw [hSG]; exact ⟨i, hi, 0, rfl⟩
  · have hl := hXl i hi
    rw [V'.cl hl]
    have := s2 i hi
    rw [h4] at this
    exact him _ _ hl this
end STYP
