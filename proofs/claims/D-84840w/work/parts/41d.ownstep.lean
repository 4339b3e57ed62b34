/-! TYPING, BOTH: a part's own type, whatever its kind -/
theorem PGF.le {D : pgD} {m : Nat} (h : PGF D m) : ∀ (k f : Nat), f + k = D.fc + 1 → D.bP f ≤ D.bP (D.fc + 1) ∧ D.tV f ≤ D.tV (D.fc + 1) ∧ D.bF f ≤ D.bF (D.fc + 1) := by
  intro k
  induction k with
  | zero => intro f e; rw [show f = D.fc + 1 by omega]; exact ⟨Nat.le_refl _, Nat.le_refl _, Nat.le_refl _⟩
  | succ k ih =>
    intro f e
    have := ih (f + 1) (by omega)
    have := (h.2.2 f (by omega)).1
    omega
theorem PGF.pm {D : pgD} {m : Nat} (h : PGF D m) : ∀ (k g : Nat), g + k ≤ D.fc + 1 → 1 ≤ k → D.tV g + D.bk g ≤ D.tV (g + k) ∧ D.bP g < D.bP (g + k) ∧ D.bF g ≤ D.bF (g + k) := by
  intro k
  induction k with
  | zero => intro g _ h1; omega
  | succ k ih =>
    intro g h1 _
    have e := (h.2.2 (g + k) (by omega)).1
    by_cases q : k = 0
    · subst q; exact ⟨by have := e.2.1; exact this, e.1, e.2.2.1⟩
    · have := ih g (by omega) (by omega)
      show D.tV g + D.bk g ≤ D.tV (g + k + 1) ∧ D.bP g < D.bP (g + k + 1) ∧ D.bF g ≤ D.bF (g + k + 1)
      omega
theorem PGF.V {D : pgD} {m f : Nat} (h : PGF D m) (hf : f ≤ D.fc) (g : Nat) (hg : g < f) : D.tV g + D.bk g ≤ D.tV f := by
  have := (h.pm (f - g) g (by omega) (by omega)).1
  rw [show g + (f - g) = f by omega] at this
  exact this
section OWNALL
variable {L : Nat} {xs : Nat → Int32} {σ σ' τ τ' : tvS}
variable {K1 K2 Bc Bm f : Nat} {Rc Rm : Nat → Nat → Prop} {pd pd' : List (Nat × List Nat × (Nat → Nat))} {n u a rc rc' : Nat} {T T' T1 : tyJ} {D : pgD} {G : sgD} {m : Nat}
theorem own_step {rl p : Nat} (hI : TYI K1 K2 Bc Bm f Rc Rm D G rl p p (n + 2) u a pd rc T σ τ) (hF : PGF D m) (hf : f ≤ D.fc) (hp1 : D.bP f ≤ p) (hp2 : p < D.bP (f + 1)) (d dm : Nat) :
    ∃ (x y : Nat) (σ1 τ1 : tvS) (T1 : tyJ) (pd1 : List (Nat × List Nat × (Nat → Nat))) (rc1 : Nat), rn L xs (d + 5) 147 0 [.ref 65, .int (i32 (p : Int)), .int (i32 (f : Int))] [] σ = some (.inl (some (.int (i32 (x : Int)))), σ1) ∧ (∀ v, rn L xs (dm + 7) 334 0 [.ref 123, .int (i32 (f : Int)), .int (i32 (p : Int)), v] [] τ = some (.inl (some (.int (i32 (y : Int)))), τ1)) ∧
      TYI K1 K2 Bc Bm f Rc Rm D G rl (p + 1) p n u a pd1 rc1 T1 (wr σ1 66 p (i32 (x : Int))) (wr τ1 178 p (i32 (y : Int))) ∧ frT gro8 gro8 [8] σ σ1 ∧ frM FMO FMF τ τ1 ∧ LOC T T1 (BSo D G f p σ) (fun b => b = x) ∧ EQx D f T1 σ p x ∧ x < 2000000 ∧ exT Bc Bm T T1 ∧ ORm D f τ τ1 := by
  have hI0 := hI
  obtain ⟨hT, hR, hO, ⟨Nk, ce, Nm, cm, hC⟩, hS⟩ := hI
  have hPf := hF.2.2 f hf
  have hPp := hPf.2.2.1 p hp1 hp2
  have hV := hF.V hf
  have hbl := (hF.le (D.fc + 1 - (f + 1)) (f + 1) (by omega))
  have hb4 := hF.1
  have hpl : p < D.bP (D.fc + 1) := by omega
  obtain ⟨⟨r1, r2, r3, r4, r5, r6, r7⟩, g2, g3, g4, g5, g6, g7, g8⟩ := hR.2 p hpl
  obtain ⟨⟨k1, k2, k3, k4⟩, k5, k6, k7, k8, k9, k10, k11⟩ := hPp
  have hTV : ∀ v, v ∈ D.sl p → mat Bc Bm T (rd σ 67 v) (rd τ 179 v) := fun v hv => hS.2.1 v ((scp_typed hPf (D.bP (f + 1)) p (by omega) hp1 hp2 v hv).mono k4)
  -- what is known, as it is wanted
  have fin : ∀ {Q : Nat → tyJ → tvS → tvS → Prop}, OWN L xs K1 K2 Bc Bm f Rc Rm pd pd n u a rc rc T p d dm σ τ Q → (∀ tc T' s t, gP (yG T') (yC T') → Q tc T' s t → frM gro9 [63] τ t ∧ LOC T T' (BSo D G f p σ) (fun b => b = tc) ∧ EQx D f T' σ p tc) → ∃ (x y : Nat) (σ1 τ1 : tvS) (T1 : tyJ) (pd1 : List (Nat × List Nat × (Nat → Nat))) (rc1 : Nat), rn L xs (d + 5) 147 0 [.ref 65, .int (i32 (p : Int)), .int (i32 (f : Int))] [] σ = some (.inl (some (.int (i32 (x : Int)))), σ1) ∧ (∀ v, rn L xs (dm + 7) 334 0 [.ref 123, .int (i32 (f : Int)), .int (i32 (p : Int)), v] [] τ = some (.inl (some (.int (i32 (y : Int)))), τ1)) ∧
      TYI K1 K2 Bc Bm f Rc Rm D G rl (p + 1) p n u a pd1 rc1 T1 (wr σ1 66 p (i32 (x : Int))) (wr τ1 178 p (i32 (y : Int))) ∧ frT gro8 gro8 [8] σ σ1 ∧ frM FMO FMF τ τ1 ∧ LOC T T1 (BSo D G f p σ) (fun b => b = x) ∧ EQx D f T1 σ p x ∧ x < 2000000 ∧ exT Bc Bm T T1 ∧ ORm D f τ τ1 := by
    intro Q ⟨tc, tm, σ1, τ1, T1, q1, q2, q3, q4, q5, q6, q7, q8, q9'⟩ hQ
    obtain ⟨q9, q10, q11⟩ := hQ _ _ _ _ q3.c0.2.2.1 q9'
    have q12 : tc < 2000000 := by
      have := (q3.1.2.2.2.2.1 _ _ q5).1
      have : tc < yN T1 := this
      have := q3.c0.2.2.2.2.2.2
      omega
    exact ⟨tc, tm, σ1, τ1, T1, pd, rc, q1, q2, (hI0.ex q4 q3 hV (q8.sub rfl rfl rfl) (q9.sub rfl rfl)).set q5 q6 q7, q8, q9.sub rfl rfl, q10, q11, q12, q4, ORm.M q9 rfl rfl⟩
  have nlt : ∀ {z y : Nat}, T.2.2 z y → z < 2147483648 := fun {z y} hz => by
    have := (hT.1.2.2.2.2.1 _ _ hz).1
    have : z < yN T := this
    have := hT.c0.2.2.2.2.2.2
    omega
  have hz0 : ∀ x, yN T ≤ x → (yG T).1 x = 0 := fun x hx => (hT.c0.1 x hx).2
  have gT := hT.c0.2.2.1
  have lsame : ∀ {b : Nat}, BSo D G f p σ b → LOC T T (BSo D G f p σ) (fun z => z = b) := fun {b} hb => LOC.same rfl hz0 (fun P _ _ p3 z hz => by rw [hz]; exact p3 b hb)
  have hT0 := hT.less (n' := n) (by omega) (Nat.le_refl _) (Nat.le_refl _) (Nat.le_refl _)
  have hT1 := hT.less (n' := n + 1) (by omega) (Nat.le_refl _) (Nat.le_refl _) (Nat.le_refl _)
  by_cases q0 : D.K p = 0 ∨ (8 ≤ D.K p ∧ D.K p ≤ 15)
  · refine fin (own_num hT0 (by omega) q0 r1 r2 d dm) (fun tc T' s t _ hq => ?_)
    obtain ⟨w1, w2, w3⟩ := hq
    subst w2; subst w3
    exact ⟨w1, lsame (.inl rfl), ⟨fun _ => rfl, fun h => absurd h (by omega), fun h => absurd h (by omega), fun h => absurd h (by omega), fun c b h => absurd h (by omega), fun c hc => ⟨fun h => absurd h (by omega), fun h => absurd h (by omega), fun h => absurd h (by omega), fun h => absurd h (by omega)⟩, fun b h => absurd h (by omega)⟩⟩
  by_cases q1 : D.K p = 1
  · rw [q1] at r1 r2
    refine fin (own_nil hT (by omega) r1 r2 d dm) (fun tc T' s t _ hq => ?_)
    obtain ⟨w1, w2, w3⟩ := hq
    exact ⟨w1, w2.weak (fun _ h => h.elim) (fun _ h => h), ⟨fun h => absurd h (by omega), fun _ => w3, fun h => absurd h (by omega), fun h => absurd h (by omega), fun c b h => absurd h (by omega), fun c hc => ⟨fun h => absurd h (by omega), fun h => absurd h (by omega), fun h => absurd h (by omega), fun h => absurd h (by omega)⟩, fun b h => absurd h (by omega)⟩⟩
  by_cases q2 : D.K p = 2
  · have e27 := g5 (.inl q2)
    rw [q2] at r1 r2
    obtain ⟨x, y, e1, e2, e3, e4, e5⟩ := hTV _ (k8 q2)
    have hvl : D.vl p < 3002 := by
      rcases scp_typed hPf (D.bP (f + 1)) p (by omega) hp1 hp2 _ (k8 q2) with h | ⟨h, h1, h2, h3⟩ | ⟨r, c, h1, h2, h3, h4, h5, h6⟩
      · have := hPf.1.2.1; omega
      · obtain ⟨p', p1, p2, p3, p4⟩ := hPf.2.2.2.2.1 h h1 h2
        have := (hPf.2.2.1 p' p1 p2).2.2.2.2.2.2.2 (D.gv h) (by unfold pgD.bd; rw [if_pos p3, p4]; exact List.mem_cons_self)
        omega
      · have := (hPf.2.2.1 r h1 h2).2.2.2.2.2.2.2 _ h6
        omega
    refine fin (own_var hT0 (by omega) r1 r2 hvl e27.1 e27.2 e1 e2 e3 e4 e5 d dm) (fun tc T' s t _ hq => ?_)
    obtain ⟨w1, w2, w3⟩ := hq
    subst w2; subst w3
    have ev := vT_of e1 (nlt e3)
    exact ⟨w1, lsame (.inr (.inr (.inl ⟨q2, ev.symm⟩))), ⟨fun h => absurd h (by omega), fun h => absurd h (by omega), fun _ => ev.symm, fun h => absurd h (by omega), fun c b h => absurd h (by omega), fun c hc => ⟨fun h => absurd h (by omega), fun h => absurd h (by omega), fun h => absurd h (by omega), fun h => absurd h (by omega)⟩, fun b h => absurd h (by omega)⟩⟩
  by_cases q3 : D.K p = 3
  · have e27 := g5 (.inr (.inl q3))
    rw [q3] at r1 r2
    obtain ⟨l1, l2, l3, l4⟩ := k7 q3
    have e44 := (hR.1 (D.vl p) (by omega)).1.1
    have hkk := (hF.2.2 (D.vl p) (by omega)).1.2.2.2
    by_cases qs : D.vl p = f
    · obtain ⟨x, y, e1, e2, e3, e4, e5⟩ := hS.2.2.2
      rw [qs] at e27 e44 hkk
      refine fin (own_self hT0 (by omega) (by omega) r1 r2 e27.1 e27.2 e44 hkk e1 e2 e3 e4 e5 d dm) (fun tc T' s t _ hq => ?_)
      obtain ⟨w1, w2, w3⟩ := hq
      subst w2; subst w3
      have ev := rT_of e1 (nlt e3)
      exact ⟨w1, lsame (.inr (.inr (.inr (.inr (.inl ev.symm))))), ⟨fun h => absurd h (by omega), fun h => absurd h (by omega), fun h => absurd h (by omega), fun _ => by rw [if_pos qs]; exact ev.symm, fun c b h => absurd h (by omega), fun c hc => ⟨fun h => absurd h (by omega), fun h => absurd h (by omega), fun h => absurd h (by omega), fun h => absurd h (by omega)⟩, fun b h => absurd h (by omega)⟩⟩
    · obtain ⟨n0, n1, t1, T1, pd1, rc1, Nm1, cm1, j1, j2, j3, j4, j5, j6, j7, j8, j9, j10, j11⟩ := callget (L := L) (xs := xs) hT0 hF hf hR hO hC hp1 hp2 (by omega) hpl q3 (by omega) dm jv jv
      have hcn : D.cn G p = D.bk (D.vl p) + 1 + G.ng (D.vl p) := rfl
      obtain ⟨m1, m2, m3⟩ := j8 (D.bk (D.vl p)) (by omega)
      have hw := own_old (L := L) (xs := xs) (σ := σ) (T := T) (rc := rc) (pd := pd) (y := cm1 (n1 + D.bk (D.vl p))) (by omega) (by omega) (show D.vl p < f by omega) r1 r2 e27.1 e27.2 e44 ((j9.rd (j := 140) rfl _).trans (hR.1 (D.vl p) (by omega)).2.1.1) hkk j5 (hC.1.2.2 _ (by omega)) (by have := hC.1.2.1; omega) hC.2.1 dm j1 (by have := j4.2.2.1.2.1; omega) (j4.2.2.1.2.2 _ (by omega)) j2 j3 j9 m1 m2 m3 d
      obtain ⟨tc, tm, σ1, τ1, T2, w1, w2, w3, w4, w5, w6, w7, w8, w9, w10, w11, w12⟩ := hw
      subst w9; subst w10; subst w11
      have ev : cT σ1 p (D.bk (D.vl p)) = tc := by
        have e0 : ix (rd σ1 69 p) = n0 := by rw [j5, i32_ixn (by have := hC.1.2.1; have := hC.2.1; omega)]
        have eb : ce (n0 + D.bk (D.vl p)) < 2147483648 := by
          have := (w3.1.2.2.2.2.1 _ _ m1).1
          have : ce (n0 + D.bk (D.vl p)) < yN T2 := this
          have := w3.c0.2.2.2.2.2.2
          omega
        unfold cT
        rw [e0, hC.1.2.2 _ (by omega), i32_ixn (by omega), w12]
      have hlt : tc < 2000000 := by
        have := (w3.1.2.2.2.2.1 _ _ w5).1
        have : tc < yN T2 := this
        have := w3.c0.2.2.2.2.2.2
        omega
      have hI1 : TYI K1 K2 Bc Bm f Rc Rm D G rl p p n u a pd1 rc1 T2 σ1 τ1 := ⟨j2, hR.fr (S := []) (T := []) (F := []) frT.refl j9 rfl rfl, (hO.ex j3).to hV (fun _ _ _ => rfl) (fun _ _ => rfl) rfl (fun j hj i => j9.rd (j := j) (inL_off rfl j hj) i) (fun v _ => j9.rd (j := 179) rfl v), ⟨Nk, ce, Nm1, cm1, j4⟩, (hS.ex j3).to (fun _ _ _ => rfl) (fun j hj i => j9.rd (j := j) (inL_off rfl j hj) i)⟩
      exact ⟨tc, tm, σ1, τ1, T2, pd1, rc1, w1, w2, hI1.set w5 w6 w7, w8, j9, LOC.same j10 hz0 (fun P _ _ p3 z hz => by rw [hz]; exact p3 tc (.inr (.inr (.inr (.inr (.inr ⟨q3, by omega, D.bk (D.vl p), by omega, ev.symm⟩)))))), ⟨fun h => absurd h (by omega), fun h => absurd h (by omega), fun h => absurd h (by omega), fun _ => by rw [if_neg qs]; exact ev.symm, fun c b h => absurd h (by omega), fun c hc => ⟨fun h => absurd h (by omega), fun h => absurd h (by omega), fun h => absurd h (by omega), fun h => absurd h (by omega)⟩, fun b h => absurd h (by omega)⟩, hlt, j3, j11⟩
  have hl := k6 q3
  have kd : ∀ w, w < ari (D.K p) → w < 3 → ∃ c, (D.kd p)[w]? = some c ∧ D.bP f ≤ c ∧ c < p ∧ rd σ (20 + w) p = i32 (c : Int) ∧ rd τ (154 + w) p = i32 (c : Int) := fun w hw h3 => by
    obtain ⟨c, c1, c2, c3⟩ := PFp.kid (hPf.2.2.1 p hp1 hp2) (show w < (D.kd p).length by omega)
    obtain ⟨e1, e2⟩ := g2 q3 w h3
    rw [kid_at c1] at e1 e2
    exact ⟨c, c1, c2, c3, e1, e2⟩
  by_cases q4 : D.K p = 4
  · obtain ⟨c, c1, c2, c3, c4, c5⟩ := kd 0 (by rw [q4]; decide) (by omega)
    obtain ⟨b, b1, b2, b3, b4, b5⟩ := kd 1 (by rw [q4]; decide) (by omega)
    obtain ⟨x, x', e1, e2, e3, e4, e5⟩ := hS.1 c c2 c3
    obtain ⟨y, y', e1', e2', e3', e4', e5'⟩ := hS.1 b b2 b3
    rw [q4] at r1 r2
    refine fin (own_pair hT1 (by omega) r1 r2 (by omega) (by omega) c4 b4 c5 b5 e1 e2 e1' e2' e3 e3' e4 e5 e4' e5' d dm) (fun tc T' s t _ hq => ?_)
    obtain ⟨w1, w2, w3⟩ := hq
    have ex := oT_of e1 (nlt e3)
    have ey := oT_of e1' (nlt e3')
    refine ⟨w1, w2.weak (fun z hz => .inr (.inl (hz.elim (fun h => ⟨0, c, c1, h.trans ex.symm⟩) (fun h => ⟨1, b, b1, h.trans ey.symm⟩)))) (fun _ h => h), ⟨fun h => absurd h (by omega), fun h => absurd h (by omega), fun h => absurd h (by omega), fun h => absurd h (by omega), fun c' b' _ h1 h2 => ?_, fun c hc => ⟨fun h => absurd h (by omega), fun h => absurd h (by omega), fun h => absurd h (by omega), fun h => absurd h (by omega)⟩, fun b h => absurd h (by omega)⟩⟩
    rw [c1] at h1; rw [b1] at h2
    rw [← Option.some.inj h1, ← Option.some.inj h2, ex, ey]; exact w3
  by_cases q5 : D.K p = 5 ∨ D.K p = 6 ∨ D.K p = 7
  · have ha : 0 < ari (D.K p) := by rcases q5 with e | e | e <;> rw [e] <;> decide
    obtain ⟨c, c1, c2, c3, c4, c5⟩ := kd 0 ha (by omega)
    obtain ⟨x, y, e1, e2, e3, e4, e5, e6⟩ := hS.2.2.1 p c hp1 hp2 q5 c1 c3
    refine fin (own_of hT0 (by omega) q5 r1 r2 g7 g8 (by omega) c4 c5 e1 e2 e3 e4 e5 (by rw [e6]; split <;> simp) d dm) (fun tc T' s t _ hq => ?_)
    obtain ⟨w1, w2, w3, w4⟩ := hq
    subst w2
    have ex := oT_of e1 (nlt e3)
    have e6 : (yG T').1 (yC T' x) = if D.K p = 7 then 4 else 2 := e6
    have k2 : 2 ≤ (yG T').1 (yC T' x) := by rw [e6]; split <;> omega
    have n3 : (yG T').1 (yC T' x) ≠ 3 := by rw [e6]; split <;> omega
    refine ⟨w1, LOC.same rfl hz0 (fun P p1 _ p3 z hz => ?_), fun h => absurd h (by omega), fun h => absurd h (by omega), fun h => absurd h (by omega), fun h => absurd h (by omega), fun c b h => absurd h (by omega), fun c' hc => ?_, fun b h => absurd h (by omega)⟩
    · have px : P x := p3 x (.inr (.inl ⟨0, c, c1, ex.symm⟩))
      have kk := clR.kid hz0 gT k2 p1 px
      rw [hz]
      by_cases k5 : D.K p = 5
      · rw [w3 k5]; exact kk.1
      · rw [w4 k5]; exact kk.2 n3
    · rw [c1] at hc
      rw [← Option.some.inj hc, ex]
      refine ⟨fun k => ⟨(yG T').2.2 (yC T' x), ?_⟩, fun k => ⟨(yG T').2.1 (yC T' x), ?_⟩, fun k => ⟨(yG T').2.1 (yC T' x), ?_⟩, fun h => absurd h (by omega)⟩
      · rw [w3 k]; exact ⟨by rw [e6, if_neg (by omega)], rfl, fun _ => rfl⟩
      · rw [w4 (by omega)]; exact ⟨by rw [e6, if_neg (by omega)], rfl, fun _ => rfl⟩
      · rw [w4 (by omega)]; exact ⟨by rw [e6, if_pos k], rfl, fun _ => rfl⟩
  by_cases q6 : D.K p = 17
  · obtain ⟨c, c1, c2, c3, c4, c5⟩ := kd 0 (by rw [q6]; decide) (by omega)
    obtain ⟨h1, h2, h3, h4⟩ := g6 q6
    have hfn := k10 q6
    obtain ⟨x, x', e1, e2, e3, e4, e5⟩ := hS.2.1 (D.gv (D.vl p)) (.inr (.inl ⟨_, hfn.1, hfn.2, rfl⟩))
    obtain ⟨y, y', e1', e2', e3', e4', e5'⟩ := hS.1 c c2 c3
    have hgv := k11 (D.gv (D.vl p)) (by unfold pgD.bd; rw [if_pos q6]; exact List.mem_cons_self)
    rw [q6] at r1 r2
    refine fin (own_fn hT1 (by omega) r1 r2 (by omega) (by omega) (by omega) c4 c5 h1 h2 h3 e1 e2 e1' e2' e3 e3' e4 e5 e4' e5' d dm) (fun tc T' s t _ hq => ?_)
    obtain ⟨w1, w2, w3⟩ := hq
    have ex := vT_of e1 (nlt e3)
    have ey := oT_of e1' (nlt e3')
    refine ⟨w1, w2.weak (fun z hz => hz.elim (fun h => .inr (.inr (.inr (.inl ⟨q6, h.trans ex.symm⟩)))) (fun h => .inr (.inl ⟨0, c, c1, h.trans ey.symm⟩))) (fun _ h => h), ⟨fun h => absurd h (by omega), fun h => absurd h (by omega), fun h => absurd h (by omega), fun h => absurd h (by omega), fun c b h => absurd h (by omega), fun c' hc => ⟨fun h => absurd h (by omega), fun h => absurd h (by omega), fun h => absurd h (by omega), fun _ => ?_⟩, fun b h => absurd h (by omega)⟩⟩
    rw [c1] at hc
    rw [← Option.some.inj hc, ex, ey]; exact w3
  · have q7 : D.K p = 16 ∨ D.K p = 18 ∨ D.K p = 19 ∨ D.K p = 20 := by omega
    have ha : 1 < ari (D.K p) := by rcases q7 with e | e | e | e <;> rw [e] <;> decide
    obtain ⟨b, b1, b2, b3, b4, b5⟩ := kd 1 ha (by omega)
    obtain ⟨x, y, e1, e2, e3, e4, e5⟩ := hS.1 b b2 b3
    refine fin (own_second hT0 (by omega) q7 r1 r2 (by omega) b4 b5 e1 e2 e3 e4 e5 d dm) (fun tc T' s t _ hq => ?_)
    obtain ⟨w1, w2, w3⟩ := hq
    subst w2; subst w3
    have ex := oT_of e1 (nlt e3)
    refine ⟨w1, lsame (.inr (.inl ⟨1, b, b1, ex.symm⟩)), ⟨fun h => absurd h (by omega), fun h => absurd h (by omega), fun h => absurd h (by omega), fun h => absurd h (by omega), fun c b h => absurd h (by omega), fun c hc => ⟨fun h => absurd h (by omega), fun h => absurd h (by omega), fun h => absurd h (by omega), fun h => absurd h (by omega)⟩, fun b' _ h2 => ?_⟩⟩
    rw [b1] at h2
    rw [← Option.some.inj h2, ex]
end OWNALL
