/-! TYPING, BOTH: mates of a function's own unknowns; the component's copies for its calls -/
section COPIES42
variable {L : Nat} {xs : Nat → Int32} {σ σ' τ τ' : tvS}
variable {K1 K2 Bc Bm f : Nat} {Rc Rm : Nat → Nat → Prop} {n u a rc : Nat} {T T1 T2 : tyJ} {D : pgD} {G : sgD} {m : Nat}
theorem TJ.pairs {x y : Nat → Nat} (hT : TJ K1 K2 Bc Bm f Rc Rm [] n u a rc T σ τ) : ∀ k : Nat, (∀ i, i < k → lone T.1.1 T.1.2.1 T.1.2.2.1 T.1.2.2.2.1 (x i) ∧ lone T.2.1.1 T.2.1.2.1 T.2.1.2.2.1 T.2.1.2.2.2.1 (y i) ∧ (∀ q, ¬ T.2.2 (x i) q) ∧ ∀ q, ¬ T.2.2 q (y i)) → (∀ i j, i < k → j < k → x i = x j → i = j) → (∀ i j, i < k → j < k → y i = y j → i = j) →
    ∃ T', TJ K1 K2 Bc Bm f Rc Rm [] n u a rc T' σ τ ∧ exT Bc Bm T T' ∧ T'.1 = T.1 ∧ T'.2.1 = T.2.1 ∧ (∀ i, i < k → T'.2.2 (x i) (y i)) ∧ ∀ p q, T'.2.2 p q → T.2.2 p q ∨ ∃ i, i < k ∧ p = x i ∧ q = y i := by
  intro k
  induction k with
  | zero => intro _ _ _; exact ⟨T, hT, exT.refl, rfl, rfl, fun i hi => absurd hi (Nat.not_lt_zero _), fun p q h => .inl h⟩
  | succ k ih =>
    intro hl hx hy
    obtain ⟨T1, a1, a2, a3, a4, a5, a6⟩ := ih (fun i hi => hl i (by omega)) (fun i j h1 h2 => hx i j (by omega) (by omega)) (fun i j h1 h2 => hy i j (by omega) (by omega))
    obtain ⟨l1, l2, l3, l4⟩ := hl k (by omega)
    have n1 : ∀ q, ¬ T1.2.2 (x k) q := fun q hq => by
      rcases a6 _ _ hq with h | ⟨i, i1, i2, i3⟩
      · exact l3 q h
      · have := hx k i (by omega) (by omega) i2; omega
    have n2 : ∀ q, ¬ T1.2.2 q (y k) := fun q hq => by
      rcases a6 _ _ hq with h | ⟨i, i1, i2, i3⟩
      · exact l4 q h
      · have := hy k i (by omega) (by omega) i3; omega
    obtain ⟨b1, b2⟩ := a1.pair (x := x k) (y := y k) (by rw [a3]; exact l1) (by rw [a4]; exact l2) n1 n2 (fun e he => by cases he)
    refine ⟨(T1.1, T1.2.1, zA T1.2.2 (x k) (y k)), b1, a2.trans b2, a3, a4, fun i hi => ?_, fun p q h => ?_⟩
    · by_cases e : i = k
      · subst e; exact .inr ⟨rfl, rfl⟩
      · exact .inl (a5 i (by omega))
    · rcases h with h | ⟨h1, h2⟩
      · rcases a6 _ _ h with h | ⟨i, i1, i2⟩
        · exact .inl h
        · exact .inr ⟨i, by omega, i2⟩
      · exact .inr ⟨k, by omega, h1, h2⟩
/-- calls of older functions in j parts from p on -/
def ocn (D : pgD) (f : Nat) : Nat → Nat → Nat
  | _, 0 => 0
  | p, j + 1 => (if D.K p = 3 ∧ D.vl p < f then 1 else 0) + ocn D f (p + 1) j
/-- a call's copy is made by the component alone -/
def PEN (D : pgD) (G : sgD) (Bc : Nat) (pd : List (Nat × List Nat × (Nat → Nat))) (T : tyJ) (Nk : Nat) (ce : Nat → Nat) (σ : tvS) (q : Nat) : Prop :=
  ∃ n0 : Nat, rd σ 69 q = i32 (n0 : Int) ∧ n0 + D.cn G q ≤ Nk ∧ (∀ i, i < D.cn G q → cuN Bc (ce (n0 + i))) ∧ ∃ (SL : List Nat) (im : Nat → Nat), (q, SL, im) ∈ pd ∧ ∀ i, i < D.cn G q → cov T.1.2.1 T.1.2.2.1 SL im (G.XC (D.vl q) i) (ce (n0 + i))
theorem TJ.l70 {pd : List (Nat × List Nat × (Nat → Nat))} (h : TJ K1 K2 Bc Bm f Rc Rm pd n u a rc T σ τ) : ln σ 70 ≤ 32768 := by
  obtain ⟨⟨⟨hl, hv, _, _, _, _, hR, _⟩, _⟩, _⟩ := h
  obtain ⟨e, he⟩ := hR.1 (70, 32768) (by decide)
  have he : ln σ 70 * 2 ^ e = 32768 := he
  have := Nat.le_mul_of_pos_right (ln σ 70) (Nat.two_pow_pos e)
  omega
theorem PEN.ct {pd : List (Nat × List Nat × (Nat → Nat))} {Nk q i : Nat} {ce : Nat → Nat} (h : PEN D G Bc pd T Nk ce σ q) (hT : TJ K1 K2 Bc Bm f Rc Rm pd n u a rc T σ τ) (hK : KP Nk ce σ) (hi : i < D.cn G q) : ∃ n0 : Nat, rd σ 69 q = i32 (n0 : Int) ∧ n0 + D.cn G q ≤ Nk ∧ cT σ q i = ce (n0 + i) ∧ ce (n0 + i) < yN T := by
  obtain ⟨n0, a1, a2, a3, SL, im, a4, a5⟩ := h
  have z := hT.c0
  have l := hT.l70
  have hN : ce (n0 + i) < yN T := by
    rcases a5 i hi with ⟨d1, d2⟩ | ⟨d1, d2, d3⟩
    · have e0 := (z.2.2.2.2.2.1 _).mp d1
      rw [d2, e0]
      have := hT.2.1.1; have := hT.2.1.2.1
      show 0 < T.1.1; omega
    · rw [d3]
      exact ((hT.2.2.2.1.1 _ a4).2 _ d2).2.2.2.1
  refine ⟨n0, a1, a2, ?_, hN⟩
  have e0 : ix (rd σ 69 q) = n0 := by rw [a1, i32_ixn (by have := hK.2.1; omega)]
  have := z.2.2.2.2.2.2
  unfold cT
  rw [e0, hK.2.2 _ (by omega), i32_ixn (by omega)]
/-- nothing has been changed since, copies apart -/
def SAT (T0 T : tyJ) : Prop := yN T0 ≤ yN T ∧ (∀ x, x < yN T0 → (yG T).1 x = (yG T0).1 x ∧ (yG T).2.1 x = (yG T0).2.1 x ∧ (yG T).2.2 x = (yG T0).2.2 x) ∧ yC T = yC T0 ∧ ∀ t u, yC T0 t < yN T0 → (yH T (yC T0 t) u ↔ yH T0 (yC T0 t) u)
/-- the sides, while copies are made -/
def IST (D : pgD) (G : sgD) (f : Nat) (T0 : tyJ) (p : Nat) (T : tyJ) (σ : tvS) : Prop := (∃ tg, ITP D G f (D.bP f) (D.bP f) p T σ tg) ∧ (∀ v, tvd D f (D.bP f) v → vT σ v < yN T) ∧ SAT T0 T
/-- room for so many copies more -/
def CRM (cx k n u a Nk : Nat) (T : tyJ) : Prop := T.1.1 + 64 * k + n + u ≤ 122000 ∧ T.1.2.2.2.2.1 + 100 * (cx + k) < 212000 ∧ T.1.2.2.2.2.2 + 2 * k + 100000 * a ≤ 1000000000 ∧ Nk + 30 * (cx + k) ≤ 32768
theorem cp_loop (hF : PGF D m) (hf : f ≤ D.fc) {cx : Nat} {T0 : tyJ} (d : Nat) (P0 : Int32) : ∀ (j p : Nat) (pd : List (Nat × List Nat × (Nat → Nat))) (T : tyJ) (Nk : Nat) (ce : Nat → Nat) (σ : tvS) (v4 : Value), p + j = D.bP (f + 1) → D.bP f ≤ p → TJ K1 K2 Bc Bm f Rc Rm pd n u a rc T σ τ → PGR D σ τ → OLF D G f Bc Bm Rc Rm T σ τ → KP Nk ce σ → CRM cx (ocn D f p j) n u a Nk T → (∀ q, D.bP f ≤ q → q < p → D.K q = 3 → D.vl q < f → PEN D G Bc pd T Nk ce σ q) → IST D G f T0 p T σ →
    ∃ (σ' : tvS) (T' : tyJ) (pd' : List (Nat × List Nat × (Nat → Nat))) (Nk' : Nat) (ce' : Nat → Nat) (w3 w4 : Value), rn L xs (d + 6) 142 119 [.ref 65, .int (i32 (f : Int)), .int P0, .int (i32 (p : Int)), v4] [] σ = rn L xs (d + 6) 142 169 [.ref 65, .int (i32 (f : Int)), .int P0, w3, w4] [] σ' ∧ TJ K1 K2 Bc Bm f Rc Rm pd' n u a rc T' σ' τ ∧ exT Bc Bm T T' ∧ KP Nk' ce' σ' ∧ CRM cx 0 n u a Nk' T' ∧ pd'.length = pd.length + ocn D f p j ∧ (∀ q, D.bP f ≤ q → q < D.bP (f + 1) → D.K q = 3 → D.vl q < f → PEN D G Bc pd' T' Nk' ce' σ' q) ∧ IST D G f T0 (D.bP (f + 1)) T' σ' ∧ frT (59 :: 60 :: 69 :: FCK) (59 :: 60 :: FCK) [8, 11, 12, 14] σ σ' ∧ ORc D f σ σ' := by
  have hb4 := hF.1
  have hbl := (hF.le (D.fc + 1 - (f + 1)) (f + 1) (by omega))
  have hV := hF.V hf
  intro j
  induction j with
  | zero =>
    intro p pd T Nk ce σ v4 e hp hT hR hO hK hcr hpen hit
    have e : p = D.bP (f + 1) := by omega
    subst e
    have hfr := hR.1 f hf
    refine ⟨σ, T, pd, Nk, ce, .int (i32 (D.bP (f + 1) : Int)), v4, ?_, hT, exT.refl, hK, hcr, rfl, hpen, hit, frT.refl, ORc.refl⟩
    rw [e142_119 (d + 5), c_in (by omega) (by omega) (by omega), i32_ixn (by omega), hfr.1.2.2.2.1, c2_ge (by omega) (by omega) (by omega) (by omega), c_t (by omega)]
  | succ j ih =>
    intro p pd T Nk ce σ v4 e hp hT hR hO hK hcr hpen hit
    have hfr := hR.1 f hf
    have hPp := (hF.2.2 f hf).2.2.1 p hp (by omega)
    have hRp := hR.2 p (by omega)
    have hk20 := hPp.1.1
    have hoc : ocn D f p (j + 1) = (if D.K p = 3 ∧ D.vl p < f then 1 else 0) + ocn D f (p + 1) j := rfl
    by_cases q : D.K p = 3 ∧ D.vl p < f
    · rw [if_pos q] at hoc
      rw [hoc] at hcr ⊢
      obtain ⟨q3, qf⟩ := q
      have e27 := (hRp.2.2.2.2.1 (.inr (.inl q3))).1
      obtain ⟨o1, o2, o3, o4⟩ := hO _ qf
      have hkk : D.bk (D.vl p) ≤ 5 := (hF.2.2 _ (by omega)).1.2.2.2
      have hcn : D.cn G p = D.bk (D.vl p) + 1 + G.ng (D.vl p) := rfl
      obtain ⟨g1, g2, g3, g4⟩ := hcr
      have hN : ∀ i, i < D.bk (D.vl p) + 1 + G.ng (D.vl p) → G.XC (D.vl p) i < T.1.1 ∧ Rc (D.vl p) (T.1.2.2.1 (G.XC (D.vl p) i)) := fun i hi => ⟨(hT.1.2.2.2.2.1 _ _ (o4 i hi).1).1, (o4 i hi).2.2.1⟩
      obtain ⟨s1, T1, SL, im, ce1, b1, b2, b3, b4, b5, b6, b7, b8, b9, b10, b11, b12, b13, b14, b15, b16, b17⟩ := TJ.copyC (L := L) (xs := xs) (p := p) hT qf hN hK (by omega) o1 (by omega) e27 (by omega) (by omega) (by omega) (d := d) jv jv
      have hO1 : OLF D G f Bc Bm Rc Rm T1 s1 τ := (hO.ex b3).to hV (fun j hj i => b14.rd (j := j) (inL_off rfl j hj) i) (fun v _ => b14.rd (j := 67) rfl v) (b14.1.2.2 73 rfl).1 (fun _ _ _ => rfl) (fun _ _ => rfl)
      have hB : ∀ x, x < Bc → T.1.2.2.1 x < Bc := hT.2.1.2.2.1
      obtain ⟨σ', T', pd', Nk', ce', w3, w4, z1, z2, z3, z4, z5, z6, z7, z7', z8, z9⟩ := ih (p + 1) ((p, SL, im) :: pd) T1 (Nk + D.cn G p) ce1 s1 (dj v4) (by omega) (by omega) b2 (hR.fr (S' := []) (F' := []) b14 frM.refl rfl rfl) hO1 (by rw [hcn]; exact b9) ⟨by omega, by omega, by omega, by omega⟩ (fun r h1 h2 h3 h4 => by
        by_cases er : r = p
        · subst er
          exact ⟨Nk, b12, Nat.le_refl _, fun i hi => (b10 i hi).2, SL, im, List.mem_cons_self, fun i hi => (b10 i hi).1⟩
        · obtain ⟨n0, c1, c2, c3, SL', im', c4, c5⟩ := hpen r h1 (by omega) h3 h4
          refine ⟨n0, (b13 r er).trans c1, by omega, fun i hi => ?_, SL', im', List.mem_cons_of_mem _ c4, fun i hi => ?_⟩
          · rw [b11 _ (by omega)]; exact c3 i hi
          · rw [b11 _ (by omega)]
            have hx := ((hO _ h4).2.2.2 i hi).2.1.1
            exact (c5 i hi).ex hx (hB _ hx) b3) (by
        obtain ⟨⟨tg, it⟩, iv, is⟩ := hit
        have z := hT.c0
        have zz := b2.c0
        have k67 : ∀ v, vT s1 v = vT σ v := fun v => by unfold vT; rw [b14.rd (j := 67) rfl]
        have k70 : ∀ q i, D.bP f ≤ q → q < p → D.K q = 3 → D.vl q < f → i < D.cn G q → cT s1 q i = cT σ q i := fun q i h1 h2 h3 h4 hi => by
          obtain ⟨n0, c1, c2, c3, c4⟩ := (hpen q h1 h2 h3 h4).ct hT hK hi
          have e0 : ix (rd s1 69 q) = n0 := by rw [b13 q (by omega), c1, i32_ixn (by have := hK.2.1; have := hT.l70; omega)]
          rw [c3]
          have := z.2.2.2.2.2.2
          unfold cT
          rw [e0, b9.2.2 _ (by omega), b11 _ (by omega), i32_ixn (by omega)]
        refine ⟨⟨_, ITP.go (q := p) it ⟨fun q h1 h2 => by omega, iv, fun q i h1 h2 h3 h4 hi => ?_⟩ b15 z.1 z.2.1 z.2.2.2.1 z.2.2.2.2.1 zz.2.2.1 (fun x hx => (zz.1 x hx).2) (Nat.le_refl _) (Nat.le_refl _) (fun q h1 h2 => by omega) (fun v _ => k67 v) (by unfold rT; rw [b14.rd (j := 68) rfl]) k70 (fun p1 X h1 h2 hc hco I x hx => ?_) (fun q h1 h2 h3 => by omega) (fun r v _ _ _ hd => .inl hd) (fun q i h1 h2 h3 h4 h5 hi => ?_)⟩, fun v hv => ?_, ?_⟩
        · obtain ⟨n0, c1, c2, c3, c4⟩ := (hpen q h1 h2 h3 h4).ct hT hK hi
          rw [c3]; exact c4
        · have hx : x = 0 := hx
          rw [hx]
          exact ⟨by have := hT.2.1.1; have := hT.2.1.2.1; show 0 < T.1.1; omega, .inl hco.2.2.1⟩
        · have e : q = p := by omega
          subst e
          refine ⟨rfl, i, hi, ?_⟩
          have e0 : ix (rd s1 69 q) = Nk := by rw [b12, i32_ixn (by have := hK.2.1; have := hT.l70; omega)]
          have hi' : i < D.bk (D.vl q) + 1 + G.ng (D.vl q) := hi
          have hlt : ce1 (Nk + i) < yN T1 := by
            rcases (b10 i hi').1 with ⟨d1, d2⟩ | ⟨d1, d2, d3⟩
            · have e0 := (zz.2.2.2.2.2.1 _).mp d1
              rw [d2, e0]
              have := b2.2.1.1; have := b2.2.1.2.1
              show 0 < T1.1.1; omega
            · rw [d3]
              exact ((b2.2.2.2.1.1 _ List.mem_cons_self).2 _ d2).2.2.2.1
          have := zz.2.2.2.2.2.2
          unfold cT
          rw [e0, b9.2.2 _ (by omega), i32_ixn (by omega)]
        · rw [k67 v]
          have := iv v hv
          have := b15.1.1
          omega
        · obtain ⟨s1', s2', s3', s4'⟩ := is
          have l := b15.1
          refine ⟨by have := l.1; omega, fun x hx => ?_, b6.trans s3', fun t u ht => ?_⟩
          · obtain ⟨e1, e2, e3⟩ := l.2.1 x (by omega)
            obtain ⟨f1, f2, f3⟩ := s2' x hx
            exact ⟨e1.trans f1, e2.trans f2, e3.trans f3⟩
          · have := b16 t u (by rw [s3']; omega)
            rw [s3'] at this
            exact this.trans (s4' t u ht))
      refine ⟨σ', T', pd', Nk', ce', w3, w4, ?_, z2, b3.trans z3, z4, z5, by rw [z6, List.length_cons]; omega, z7, z7', b14.trans z8, ORc.trans ⟨fun i hi => ⟨b14.rd (j := 66) rfl i, b13 i (by omega)⟩, fun v _ => b14.rd (j := 67) rfl v, fun g _ => b14.rd (j := 68) rfl g, ?_, fun i hi => ?_, b17⟩ z9⟩
      rotate_left 1
      · have l1 := hK.2.1
        have l2 := hT.l70
        have l3 := b9.2.1
        have l4 := b2.l70
        rw [hK.1, b9.1, i32_ti (by omega) (by omega), i32_ti (by omega) (by omega)]; omega
      · have l1 := hK.2.1
        have l2 := hT.l70
        rw [hK.1, i32_ti (by omega) (by omega)] at hi
        rw [b9.2.2 i (by omega), b11 i (by omega)]
        exact (hK.2.2 i (by omega)).symm
      have b1' : rn L xs (d + 5) 143 0 [.ref 65, .int (i32 (p : Int)), jv, jv] [] σ = some (.inl none, s1) := b1
      rw [e142_119 (d + 5), c_in (by omega) (by omega) (by omega), i32_ixn (by omega), hfr.1.2.2.2.1, c2_ge (by omega) (by omega) (by omega) (by omega), c_f (by omega), c_in (by omega) (by omega) (by omega), i32_ixn (by omega), hRp.1.1, q3, show (3 : Int32) = i32 3 from rfl, c2_ne (by omega) (by omega) (by omega) (by omega), c_f (by omega), c_in (by omega) (by omega) (by omega), e27, c2_ge (by omega) (by omega) (by omega) (by omega), c_f (by omega), bV_ok b1', e142_163 (d + 5), i32_up]
      exact z1
    · rw [if_neg q] at hoc
      rw [hoc, Nat.zero_add] at hcr ⊢
      obtain ⟨σ', T', pd', Nk', ce', w3, w4, z1, z⟩ := ih (p + 1) pd T Nk ce σ v4 (by omega) (by omega) hT hR hO hK hcr (fun r h1 h2 h3 h4 => hpen r h1 (by
        have : r ≠ p := fun er => q (by subst er; exact ⟨h3, h4⟩)
        omega) h3 h4) (by
        obtain ⟨⟨tg, it⟩, iv, is⟩ := hit
        refine ⟨⟨tg, fun p1 X h1 h2 hc => ?_⟩, iv, is⟩
        obtain ⟨I1, I2, I3, I4, I5, I6⟩ := it p1 X h1 h2 hc
        exact ⟨I1, I2, I3, I4, I5, fun r i h1 h2 h3 h4 hi => I6 r i h1 (by
          have : r ≠ p := fun er => q (by subst er; exact ⟨h3, h4⟩)
          omega) h3 h4 hi⟩)
      refine ⟨σ', T', pd', Nk', ce', w3, w4, ?_, z⟩
      rw [e142_119 (d + 5), c_in (by omega) (by omega) (by omega), i32_ixn (by omega), hfr.1.2.2.2.1, c2_ge (by omega) (by omega) (by omega) (by omega), c_f (by omega), c_in (by omega) (by omega) (by omega), i32_ixn (by omega), hRp.1.1, show (3 : Int32) = i32 3 from rfl, c2_ne (by omega) (by omega) (by omega) (by omega)]
      by_cases q3 : D.K p = 3
      · have e27 := (hRp.2.2.2.2.1 (.inr (.inl q3))).1
        have hvl := hPp.2.2.2.1 q3
        rw [c_f (by omega), c_in (by omega) (by omega) (by omega), e27, c2_ge (by omega) (by omega) (by omega) (by omega), c_t (by omega), e142_163 (d + 5), i32_up]
        exact z1
      · rw [c_t (by omega), e142_163 (d + 5), i32_up]
        exact z1
end COPIES42
