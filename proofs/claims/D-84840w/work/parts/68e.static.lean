/-! WHAT WAS FOUND, plainly: fns, types of parts, and all of it -/
section SPFALL
variable {σ τ : tvS} {K1 K2 g g' : Nat} {T T0 T2 T0' T2' : tyJ} {D : pgD} {G : sgD} {m : Nat} {rg : rgD} {bl bl' : List Nat} {pt by' pt' by'' : Nat → Nat} {cd : cdD} {vd : Nat → Nat}
theorem PGR.fnp (hF : PGF D m) (hR : PGR D σ τ) (hg : g ≤ D.fc) (hN : FNP D g pt by') {p k0 : Nat} (h1 : D.bP g ≤ p) (h2 : p < D.bP (g + 1)) (hk : D.K p = 17) (hd : D.kd p = [k0]) : (D.bF g ≤ D.vl p ∧ D.vl p < D.bF (g + 1)) ∧ pt (D.vl p) = p ∧ by' (D.vl p) = k0 ∧ D.st k0 = D.st p ∧ k0 + 1 = p := by
  have hb4 := hF.1
  have hPp := (hF.2.2 g hg).2.2.1 p h1 h2
  have hup := (hF.up (D.fc + 1 - (g + 1)) (g + 1) (by omega)).1
  rw [show g + 1 + (D.fc + 1 - (g + 1)) = D.fc + 1 by omega] at hup
  have hj := hPp.2.2.2.2.2.2.1 hk
  obtain ⟨f1, f2, f3, f4, f5⟩ := hN _ hj.1 hj.2
  have e1 := ((hR.2 p (by omega)).2.2.2.2.2.1 hk).2.2.2
  have e2 := ((hR.2 (pt (D.vl p)) (by omega)).2.2.2.2.2.1 f3).2.2.2
  rw [f4, e1] at e2
  have ep : pt (D.vl p) = p := by
    have := (i32_inj (by omega) (by omega) (by omega) (by omega)).mp e2
    omega
  rw [ep, hd] at f5
  have f5 : some k0 = some (by' (D.vl p)) := f5
  injection f5 with f5
  have hc := hPp.2.1
  rw [hd] at hc
  obtain ⟨c1, _, _, c4⟩ := hc
  exact ⟨hj, ep, f5.symm, c1, c4⟩
/-- what a fn keeps -/
theorem VWf.keeps (V : VWf K1 K2 D G rg g T0 T2 T bl pt by' σ τ) (hR : PGR D σ τ) (hF : PGF D m) (hg : g ≤ D.fc) (hV : ∀ g', g' < g → ∃ T0' T2' bl' pt' by'', VWf K1 K2 D G rg g' T0' T2' T bl' pt' by'' σ τ ∧ exT T2'.1.1 T2'.2.1.1 T2' T0) {p k0 : Nat} (h1 : D.bP g ≤ p) (h2 : p < D.bP (g + 1)) (hk : D.K p = 17) (hd : D.kd p = [k0]) :
    (∀ q k, spn D k0 q → PNu D rg g q k → k ∈ rg.kp (D.vl p) ∨ ∃ r : Nat, rg.ow g (k - 1) = (r : Int) ∧ spn D k0 r) ∧ ∀ k, k ∈ rg.kp (D.vl p) → 1 ≤ k ∧ k ≤ rg.nK g ∧ (∃ q, spn D k0 q ∧ PNu D rg g q k) ∧ ¬ ∃ r : Nat, rg.ow g (k - 1) = (r : Int) ∧ spn D k0 r := by
  obtain ⟨_, _, _, _, n5, n6, ⟨n7, n8⟩, _, _, ⟨x1, _⟩, _⟩ := id V
  obtain ⟨⟨j1, j2⟩, ep, eb, es, e1⟩ := hR.fnp hF hg n7 h1 h2 hk hd
  have hPp := (hF.2.2 g hg).2.2.1 p h1 h2
  have hst := hPp.1.2.2.1
  rw [n8 _ j1 j2, eb]
  have hsp : ∀ q, spn D k0 q → D.bP g ≤ q ∧ q < D.bP (g + 1) := fun q hq => by
    obtain ⟨a1, a2⟩ := hq
    omega
  have hkp : ∀ k, k < rg.nK g → ¬ kpt D (rg.ow g) k k0 → -1 ≤ rg.ow g k → ∃ r : Nat, rg.ow g k = (r : Int) ∧ spn D k0 r := fun k hk h hl => by
    unfold kpt at h
    refine ⟨(rg.ow g k).toNat, by omega, ?_, ?_⟩ <;> omega
  refine ⟨fun q k s1 s2 => ?_, fun k hk' => ?_⟩
  · obtain ⟨q1, q2⟩ := hsp q s1
    have fin : ∀ k', k = k' + 1 → k' < rg.nK g → ((∃ i, i < D.np G g q ∧ rg.nu q i = k' + 1) ∨ (D.K q = 3 ∧ D.vl q = g ∧ rg.ow g k' = -1)) → -1 ≤ rg.ow g k' → k ∈ nfil (kpN D G rg g k0) (rg.nK g) ∨ ∃ r : Nat, rg.ow g (k - 1) = (r : Int) ∧ spn D k0 r := fun k' e kl hh hl => by
      subst e
      rw [Nat.add_sub_cancel]
      by_cases c : kpt D (rg.ow g) k' k0
      · exact .inl ((nfil_mem (rg.nK g)).mpr ⟨k', kl, ⟨q, s1, hh, c⟩, rfl⟩)
      · exact .inr (hkp k' kl c hl)
    have own : ∀ i, i < D.np G g q → k = rg.nu q i → k ∈ nfil (kpN D G rg g k0) (rg.nK g) ∨ ∃ r : Nat, rg.ow g (k - 1) = (r : Int) ∧ spn D k0 r := fun i hi e => by
      obtain ⟨z1, _, z3⟩ := n5 q i q1 q2 hi
      refine fin (k - 1) (by omega) (by omega) (.inl ⟨i, hi, by omega⟩) ?_
      rw [← e] at z3
      rcases z3 with ⟨z3, _⟩ | ⟨_, _, _, z3, _⟩ <;> omega
    rcases s2 with ⟨hk4, e⟩ | ⟨hk3, i, hi, e⟩
    · exact own 0 (by unfold pgD.np; rw [if_pos hk4]; omega) e
    · unfold handN at e
      by_cases c : D.vl q = g
      · rw [if_pos c] at e
        rw [c] at hi
        obtain ⟨y1, y2, y3⟩ := rgD.gl_in (rg := rg) (g := g) (x := 0) (i := i) hi
        rw [← e] at y1 y2 y3
        exact fin (k - 1) (by omega) (by omega) (.inr ⟨hk3, c, y3⟩) (by omega)
      · rw [if_neg c] at e
        have hvl := ((hF.2.2 g hg).2.2.1 q q1 q2).2.2.2.1 hk3
        have hlt : D.vl q < g := by omega
        obtain ⟨_, _, _, _, _, V', _⟩ := hV _ hlt
        have hng := V'.2.2.2.2.2.2.2.2.2.1.1
        exact own i (by unfold pgD.np; rw [if_neg (by omega), if_pos ⟨hk3, hlt⟩, hng]; exact hi) e
  · obtain ⟨k', k1, ⟨q, s1, s3, s4⟩, k3⟩ := (nfil_mem (rg.nK g)).mp hk'
    subst k3
    rw [Nat.add_sub_cancel]
    obtain ⟨q1, q2⟩ := hsp q s1
    refine ⟨by omega, by omega, ⟨q, s1, ?_⟩, fun ⟨r, r1, r2, r3⟩ => ?_⟩
    · rcases s3 with ⟨i, i1, i2⟩ | ⟨y1, y2, y3⟩
      · unfold pgD.np at i1
        by_cases c : D.K q = 4 ∨ D.K q = 16 ∨ D.K q = 17
        · rw [if_pos c] at i1
          have : i = 0 := by omega
          subst this
          exact .inl ⟨c, i2.symm⟩
        · rw [if_neg c] at i1
          by_cases c3 : D.K q = 3 ∧ D.vl q < g
          · rw [if_pos c3] at i1
            obtain ⟨_, _, _, _, _, V', _⟩ := hV _ c3.2
            have hng := V'.2.2.2.2.2.2.2.2.2.1.1
            refine .inr ⟨c3.1, i, by omega, ?_⟩
            unfold handN
            rw [if_neg (by omega), i2]
          · rw [if_neg c3] at i1; omega
      · have hm : k' + 1 ∈ rg.gl g := (nfil_mem (rg.nK g)).mpr ⟨k', k1, y3, rfl⟩
        obtain ⟨n, n1, n2⟩ := List.mem_iff_getElem.mp hm
        refine .inr ⟨y1, n, by rw [y2]; exact n1, ?_⟩
        unfold handN
        rw [if_pos y2, List.getD_eq_getElem?_getD, List.getElem?_eq_getElem n1, n2]; rfl
    · unfold kpt at s4
      omega
/-- types of a part -/
theorem VWf.sty (V : VWf K1 K2 D G rg g T0 T2 T bl pt by' σ τ) (hT : TJ0 K1 K2 T σ τ) (hN : T.1.1 ≤ 122000) (hR : PGR D σ τ) (hF : PGF D m) (hg : g ≤ D.fc) (hV : ∀ g', g' < g → ∃ T0' T2' bl' pt' by'', VWf K1 K2 D G rg g' T0' T2' T bl' pt' by'' σ τ ∧ exT T2'.1.1 T2'.2.1.1 T2' T0) (hcg : ∀ p v, D.bP g ≤ p → p < D.bP (g + 1) → D.K p = 17 → v ∈ cd.cg (D.vl p) → ∃ q, D.st p ≤ q ∧ q < p ∧ D.K q = 2 ∧ D.vl q = v ∧ v ∈ D.sl p) {p : Nat} (h1 : D.bP g ≤ p) (h2 : p < D.bP (g + 1)) : STy D rg cd (tsT T σ) g p := by
  have hPf := hF.2.2 g hg
  have hPp := hPf.2.2.1 p h1 h2
  have hG := V.gr hT
  obtain ⟨i1, _, _, _, _, i0⟩ := hT.i1
  obtain ⟨⟨⟨σ2, τ2, hJ⟩, _⟩, ⟨v1, v2, v3, v4⟩, _, _, n5, n6, ⟨n7, n8⟩, n9, n10, ⟨x1, _⟩, _⟩ := id V
  obtain ⟨op, ⟨y1, y2, y3, y4, y5, y6, y7⟩, _⟩ := v1 p h1 h2
  have kid : ∀ w c : Nat, (D.kd p)[w]? = some c → D.bP g ≤ c ∧ c < D.bP (g + 1) ∧ oT σ c < T2.1.1 ∧ EQq D g T2 σ c p w := fun w c hc => by
    have z := contN.at _ _ _ _ _ hPp.2.1 hc
    have hst := hPp.1.2.2.1
    obtain ⟨a1, _, a2⟩ := v1 c (by omega) (by omega)
    exact ⟨by omega, by omega, a1, a2.2 p w h1 h2 hc⟩
  have k0 : (tgT T).ki (yC T 0) = 1 := by
    show (yG T).1 (yC T 0) = 1
    rw [i0]; exact (i1 0).mpr rfl
  have zl : (0 : Nat) < T2.1.1 := hJ.plc.2.2.2.2.2
  have cleq : ∀ x y, x < T2.1.1 → y < T2.1.1 → yC T2 x = yC T2 y → yC T x = yC T y := fun x y hx hy e => by rw [V.cl hx, V.cl hy, e]
  have hl : ∀ (x y : Nat), x < T2.1.1 → y < T2.1.1 → ((yG T2).1 (yC T2 y) ≠ 1 → hQ (yC T2) (yH T2) (yC T2 x) (yC T2 y)) → (tgT T).hl (yC T x) (yC T y) := fun x y hx hy h => by
    rw [V.cl hx, V.cl hy]
    refine (((hG _ (V.rt hx)).2.2.2 _).1).mpr ?_
    by_cases c : (yG T2).1 (yC T2 y) = 1
    · exact .inl c
    · obtain ⟨v', w1, w2⟩ := h c
      exact .inr ⟨v', w1, w2⟩
  refine ⟨fun k => ?_, fun k => ?_, fun k => ?_, fun c0 c1 e => ?_, fun c0 e => ?_, fun c0 c1 c2 e => ?_, fun k => ?_⟩
  · show (tgT T).ki (yC T (oT σ p)) = 1
    rw [y1 (.inl k)]; exact k0
  · obtain ⟨z, hz⟩ := y2 k
    exact (V.bx hT (by omega) hz).2.1
  · show yC T (oT σ p) = yC T (vT σ (D.vl p))
    rw [y3 k]
  · have a0 : (D.kd p)[0]? = some c0 := by rw [e]; rfl
    have a1 : (D.kd p)[1]? = some c1 := by rw [e]; rfl
    obtain ⟨b1, b2, b3, z1, z2, z3, z4, z5, z6, z7⟩ := kid 0 c0 a0
    obtain ⟨b1', b2', b3', u1, u2, u3, u4, u5, u6, u7⟩ := kid 1 c1 a1
    refine ⟨fun k => ?_, fun k => ?_, fun k => ?_, fun k k' => ?_, fun k => ?_⟩
    · have := V.bx hT (by omega) (y5 c0 c1 k a0 a1)
      exact ⟨this.2.1, this.2.2.1.1, (this.2.2.2 (by omega)).1⟩
    · have := V.bx hT (by omega) (u4 k rfl c0 a0)
      have e1 := y7 c1 (.inl k) a1
      rw [← e1] at this
      exact ⟨this.2.1, this.2.2.1.1, by show yC T (oT σ c1) = yC T (oT σ p); rw [e1]⟩
    · obtain ⟨z, hz⟩ := (y6 c0 a0).2.2.1 k
      obtain ⟨z', hz'⟩ := u2 k rfl c0 a0
      have w1 := V.bx hT (by omega) hz
      have w2 := V.bx hT (by omega) hz'
      exact ⟨w1.2.1, w2.2.2.1.1, (w1.2.2.2 (by omega)).1⟩
    · refine ⟨?_, ?_, ?_⟩
      · show (tgT T).ki (yC T (oT σ p)) = 1
        rw [y1 (.inr ⟨k, k'⟩)]; exact k0
      · show (tgT T).ki (yC T (oT σ c0)) = 1
        rw [cleq _ _ b3 zl (z3 (.inl ⟨k, k'⟩))]; exact k0
      · show (tgT T).ki (yC T (oT σ c1)) = 1
        rw [cleq _ _ b3' zl (u3 (.inl ⟨k, k'⟩))]; exact k0
    · refine ⟨?_, ?_⟩
      · show yC T (vT σ (D.vl p)) = yC T (oT σ c0)
        rw [z6 k rfl]
      · show yC T (oT σ c1) = yC T (oT σ p)
        rw [y7 c1 (by omega) a1]
  · have a0 : (D.kd p)[0]? = some c0 := by rw [e]; rfl
    obtain ⟨b1, b2, b3, _⟩ := kid 0 c0 a0
    obtain ⟨w1, w2, _, w4⟩ := y6 c0 a0
    refine ⟨fun k => ?_, fun k => ?_, fun k => ?_⟩
    · obtain ⟨z, hz⟩ := w1 k
      have := V.bx hT (by omega) hz
      exact ⟨this.2.1, this.2.2.1.1⟩
    · obtain ⟨z, hz⟩ := w2 k
      have := V.bx hT (by omega) hz
      exact ⟨this.2.1, (this.2.2.2 (by omega)).1⟩
    · have := V.bx hT (by omega) (w4 k)
      obtain ⟨⟨j1, j2⟩, ep, eb, es, e1⟩ := hR.fnp hF hg n7 h1 h2 k e
      refine ⟨this.2.1, this.2.2.1.1, (this.2.2.2 (by omega)).1, fun x hx => ?_, fun kk hkk => ?_⟩
      · obtain ⟨q, q1, q2, q3, q4, q5⟩ := hcg p x h1 h2 k hx
        obtain ⟨r1, r2⟩ := hPf.inV q5 h1 h2
        refine hl _ _ op (v2 x r1 r2) (fun hne => ?_)
        have hh := n9 (D.vl p) q j1 j2 (by rw [eb]; exact ⟨by rw [es]; exact q1, by omega⟩) q3 (by rw [ep, q4]; exact q5) (by rw [q4]; exact hne)
        rw [ep, q4] at hh; exact hh
      · obtain ⟨d1, d2, _⟩ := (V.keeps hR hF hg hV h1 h2 k e).2 kk hkk
        have hb := V.kbox hF hg hV d1 d2
        refine ⟨(tsT T σ).kC g kk, ?_, tgD.rc0⟩
        rw [V.kC hN d1 d2]
        refine hl _ _ op (V.blk d1 d2) (fun hne => ?_)
        have hh := n10 (D.vl p) kk j1 j2 hkk hne
        rw [ep] at hh; exact hh
  · have a0 : (D.kd p)[0]? = some c0 := by rw [e]; rfl
    have a1 : (D.kd p)[1]? = some c1 := by rw [e]; rfl
    have a2 : (D.kd p)[2]? = some c2 := by rw [e]; rfl
    obtain ⟨b1, b2, b3, z1, z2, z3, z4, z5, z6, z7⟩ := kid 0 c0 a0
    obtain ⟨b1', b2', b3', u1, u2, u3, u4, u5, u6, u7⟩ := kid 1 c1 a1
    obtain ⟨b1'', b2'', b3'', s1, s2, s3, s4, s5, s6, s7⟩ := kid 2 c2 a2
    refine ⟨fun k => ⟨?_, ?_, ?_⟩, fun k => ?_⟩
    · show (tgT T).ki (yC T (oT σ c0)) = 1
      rw [cleq _ _ b3 zl (z3 (.inr ⟨k, rfl⟩))]; exact k0
    · show yC T (oT σ c1) = yC T (oT σ p)
      rw [y7 c1 (by omega) a1]
    · show yC T (oT σ c2) = yC T (oT σ p)
      rw [y7 c1 (by omega) a1]; exact cleq _ _ b3'' b3' (s5 (.inl k) rfl c1 a1)
    · have hh := z7 k rfl
      have := V.bx hT (by omega) hh.1
      have hb2 : D.vl p + 1 < D.tV (g + 1) ∧ D.tV g ≤ D.vl p + 1 := by
        have := (hPp.2.2.2.2.2.2.2 (D.vl p + 1) (by unfold pgD.bd; rw [if_neg (by omega), if_neg (by omega), if_pos k]; exact List.mem_cons_of_mem _ List.mem_cons_self))
        omega
      refine ⟨this.2.1, this.2.2.1.1, ?_, ?_, ?_⟩
      · show yC T (vT σ (D.vl p + 1)) = yC T (oT σ c0)
        exact cleq _ _ (v2 _ hb2.2 hb2.1) b3 hh.2.symm
      · show yC T (oT σ c1) = yC T (oT σ p)
        rw [y7 c1 (by omega) a1]
      · show yC T (oT σ c2) = yC T (oT σ p)
        rw [y7 c1 (by omega) a1]; exact cleq _ _ b3'' b3' (s5 (.inr k) rfl c1 a1)
  · obtain ⟨_, hv1, hv2, hlen⟩ := hPp.2.2.2.1 k
    by_cases c : D.vl p = g
    · have hroot := hPf.root h1 h2
      have ert : yC T (oT σ (D.bP (g + 1) - 1)) = yC T (rT σ g) := cleq _ _ (v1 _ hroot.1 hroot.2.1).1 v3 ((v1 _ hroot.1 hroot.2.1).2.2.1 (by omega))
      refine ⟨fun _ => True, fun x => x, fun x _ => ⟨fun _ => rfl, fun _ _ => ⟨trivial, rfl⟩, fun _ => ⟨trivial, rfl⟩, fun _ _ h => ⟨trivial, h⟩⟩, fun j kk hj => ⟨trivial, ?_⟩, ⟨trivial, ?_⟩, fun j hj => ⟨trivial, ?_⟩⟩
      · obtain ⟨b1, b2, b3, z1, _⟩ := kid j kk hj
        have hj' : j < D.bk g := by
          have := (List.getElem?_eq_some_iff.mp hj).1
          rw [hlen, c] at this; exact this
        have hh := z1 k
        rw [if_pos c] at hh
        rw [c]
        have := hPf.1.2.1
        exact (cleq _ _ b3 (v2 _ (by omega) (by omega)) hh).symm
      · rw [c]
        show yC T (oT σ (D.bP (g + 1) - 1)) = yC T (oT σ p)
        rw [ert, y4 k, if_pos c]
      · unfold handN
        rw [if_pos c, c]
    · have hlt : D.vl p < g := by omega
      obtain ⟨T0', T2', bl', pt', by'', V', hx⟩ := hV _ hlt
      obtain ⟨SG, hm, hH, hS⟩ := V.hom V' hT hx hF hg h1 h2 k rfl hlt
      obtain ⟨_, ⟨v1', v2', v3', _⟩, _, _, _, _, _, _, _, ⟨x1', x2', x3', x4'⟩, _⟩ := id V'
      have hcn : D.cn G p = D.bk (D.vl p) + 1 + G.ng (D.vl p) := rfl
      have hPf' := hF.2.2 (D.vl p) (by omega)
      have hlt' := hPf'.1.1
      have hroot := hPf'.root (q := D.bP (D.vl p)) (Nat.le_refl _) hlt'
      have ert : yC T (oT σ (D.bP (D.vl p + 1) - 1)) = yC T (G.XC (D.vl p) (D.bk (D.vl p))) := by
        rw [x3', V'.cl (v1' _ hroot.1 hroot.2.1).1, V'.cl v3']
        exact (v1' _ hroot.1 hroot.2.1).2.2.1 (by omega)
      refine ⟨SG, hm, hH, fun j kk hj => ?_, ?_, fun j hj => ?_⟩
      · obtain ⟨b1, b2, b3, z1, _⟩ := kid j kk hj
        have hj' : j < D.bk (D.vl p) := by
          have := (List.getElem?_eq_some_iff.mp hj).1
          rw [hlen] at this; exact this
        have hh := z1 k
        rw [if_neg c] at hh
        have hS' := hS j (by omega)
        rw [x2' j hj'] at hS'
        refine ⟨hS'.1, hS'.2.trans ?_⟩
        exact (cleq _ _ b3 (v4 p j h1 h2 k hlt (by omega)) hh).symm
      · have hS' := hS (D.bk (D.vl p)) (by omega)
        rw [← ert] at hS'
        refine ⟨hS'.1, hS'.2.trans ?_⟩
        show yC T (cT σ p (D.bk (D.vl p))) = yC T (oT σ p)
        rw [y4 k, if_neg c]
      · obtain ⟨g1, g2, _⟩ := rgD.gl_in (rg := rg) (g := D.vl p) (x := 0) (i := j) hj
        have hj' : j < G.ng (D.vl p) := by omega
        have hS' := hS (D.bk (D.vl p) + 1 + j) (by omega)
        rw [x4' j hj'] at hS'
        rw [V'.kC hN g1 g2]
        refine ⟨hS'.1, hS'.2.trans ?_⟩
        have hnp : j < D.np G g p := by unfold pgD.np; rw [if_neg (by omega), if_pos ⟨k, hlt⟩]; exact hj'
        obtain ⟨w1, w2, _⟩ := n5 p j h1 h2 hnp
        unfold handN
        rw [if_neg c, V.kC hN w1.1 w1.2]
        have e1 : pnC D σ p j = cT σ p (D.bk (D.vl p) + 1 + j) := by unfold pnC; rw [if_neg (by omega)]
        rw [← e1]
        have hpl : pnC D σ p j < T2.1.1 := by rw [e1]; exact v4 p _ h1 h2 k hlt (by omega)
        exact (cleq _ _ (V.blk w1.1 w1.2) hpl w2).symm
/-- all that a run wants to know -/
theorem SPF.all {T0f T2f : Nat → tyJ} (hF : PGF D m) (hR : PGR D σ τ) (hT : TJ0 K1 K2 T σ τ) (hN : T.1.1 ≤ 122000) (hV : ∀ g, g ≤ D.fc → ∃ bl pt by', VWf K1 K2 D G rg g (T0f g) (T2f g) T bl pt by' σ τ) (hx : ∀ g g', g ≤ D.fc → g' < g → exT (T2f g').1.1 (T2f g').2.1.1 (T2f g') (T0f g)) (hcg : ∀ p v, p < D.bP (D.fc + 1) → D.K p = 17 → v ∈ cd.cg (D.vl p) → ∃ q, D.st p ≤ q ∧ q < p ∧ D.K q = 2 ∧ D.vl q = v ∧ v ∈ D.sl p)
    (hH : HTS D cd.hg cd.sl) (hpa : ∀ f k, f ≤ D.fc → k < D.bk f → cd.vo (D.tV f + k) = -1 ∧ vd (D.tV f + k) = k) (hSV : ∀ p, p < D.bP (D.fc + 1) → SVa D cd vd p) : SPF D m rg cd (tsT T σ) vd := by
  have hup : ∀ f, f ≤ D.fc → D.bP (f + 1) ≤ D.bP (D.fc + 1) := fun f hf => by
    have := (hF.up (D.fc + 1 - (f + 1)) (f + 1) (by omega)).1
    rw [show f + 1 + (D.fc + 1 - (f + 1)) = D.fc + 1 by omega] at this
    exact this
  have hVl : ∀ g, g ≤ D.fc → ∀ g', g' < g → ∃ T0' T2' bl' pt' by'', VWf K1 K2 D G rg g' T0' T2' T bl' pt' by'' σ τ ∧ exT T2'.1.1 T2'.2.1.1 T2' (T0f g) := fun g hg g' hl => by
    obtain ⟨bl, pt, by', V⟩ := hV g' (by omega)
    exact ⟨_, _, bl, pt, by', V, hx g g' hg hl⟩
  refine ⟨hF, hH, hpa, fun c => (hT.i1).2.1 c, fun f p hf h1 h2 => ?_, fun f k hf h1 h2 => ?_, fun f q k hf h1 h2 hp => ?_, fun f p k0 hf h1 h2 hk hd => ?_, fun f hf => ?_⟩
  · obtain ⟨bl, pt, by', V⟩ := hV f hf
    have := hup f hf
    exact ⟨V.sty hT hN hR hF hf (hVl f hf) (fun p v q1 q2 => hcg p v (by omega)) h1 h2, hSV p (by omega)⟩
  · obtain ⟨bl, pt, by', V⟩ := hV f hf
    exact V.snu hT hN hF hf (hVl f hf) h1 h2
  · obtain ⟨bl, pt, by', V⟩ := hV f hf
    exact V.pnu hN hF hf (hVl f hf) h1 h2 hp
  · obtain ⟨bl, pt, by', V⟩ := hV f hf
    exact V.keeps hR hF hf (hVl f hf) h1 h2 hk hd
  · obtain ⟨bl, pt, by', V⟩ := hV f hf
    have := V.2.2.2.1
    omega
end SPFALL
