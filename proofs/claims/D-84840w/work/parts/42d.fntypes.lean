/-! TYPING, BOTH: a whole function -/
section FNTYPES
variable {L : Nat} {xs : Nat → Int32} {σ σ' τ τ' : tvS}
variable {K1 K2 Bc Bm f : Nat} {Rc Rm : Nat → Nat → Prop} {n u a rc : Nat} {T T1 T2 : tyJ} {D : pgD} {G : sgD} {m : Nat}
def FC42 : List Nat := [51, 52, 53, 54, 55, 56, 57, 58, 59, 60, 61, 65, 66, 67, 68, 69, 70]
def FT42 : List Nat := [51, 52, 53, 54, 55, 56, 57, 58, 59, 60, 61, 65, 70]
def FM42 : List Nat := [166, 167, 168, 169, 170, 171, 172, 173, 174, 175, 176, 177, 178, 179, 180, 181, 182, 183]
theorem OLF.to2 (h : OLF D G f Bc Bm Rc Rm T σ τ) (hV : ∀ g, g < f → D.tV g + D.bk g ≤ D.tV f) (hc : ∀ j, inL [44, 45, 71, 72, 73] j = true → ∀ i, rd σ' j i = rd σ j i) (h68 : ∀ g, g < f → rd σ' 68 g = rd σ 68 g) (h67 : ∀ v, v < D.tV f → rd σ' 67 v = rd σ 67 v) (hl : ln σ' 73 = ln σ 73) (hm : ∀ j, inL [140, 141, 191, 192, 193] j = true → ∀ i, rd τ' j i = rd τ j i) (h180 : ∀ g, g < f → rd τ' 180 g = rd τ 180 g) (h179 : ∀ v, v < D.tV f → rd τ' 179 v = rd τ 179 v) : OLF D G f Bc Bm Rc Rm T σ' τ' := by
  intro g hg
  obtain ⟨⟨a1, a2, a3, a4, a5, a6, a7, a8, a9, a10, a11⟩, ⟨b1, b2, b3, b4, b5, b6, b7, b8, b9⟩, c3, c4⟩ := h g hg
  have hv := hV g hg
  refine ⟨⟨a1, by rw [hc 44 rfl]; exact a2, by rw [hc 45 rfl]; exact a3, a4, fun k hk => by rw [h67 _ (by omega)]; exact a5 k hk, by rw [h68 g hg]; exact a6, by rw [hc 72 rfl]; exact a7, by rw [hc 71 rfl]; exact a8, by rw [hl]; exact a9, by rw [hl]; exact a10, fun k hk => by rw [hc 73 rfl]; exact a11 k hk⟩,
    ⟨b1, by rw [hm 140 rfl]; exact b2, by rw [hm 141 rfl]; exact b3, b4, fun k hk => by rw [h179 _ (by omega)]; exact b5 k hk, by rw [h180 g hg]; exact b6, by rw [hm 191 rfl]; exact b7, b8, fun k hk => ?_⟩, c3, c4⟩
  obtain ⟨q, q1, q2, q3⟩ := b9 k hk
  exact ⟨q, q1, by rw [hm 192 rfl]; exact q2, by rw [hm 193 rfl]; exact q3⟩
/-- the same fault of both -/
def TYG (K1 K2 : Nat) (σ τ : tvS) (R R' : tvR) : Prop := ∃ (σ0 τ' : tvS) (y : Int32), R = some (.inr (1016, (rm σ0).1), cFlt σ0 5 y) ∧ R' = some (.inl none, τ') ∧ rd τ' 123 5 = 5 ∧ rd τ' 123 6 = y ∧ (RMQ K1 K2 σ0 ∧ ln σ0 60 = ln σ0 59) ∧ frT FC42 FT42 [8, 11, 12, 14] σ σ0 ∧ frM FM42 (5 :: 6 :: FMF) τ τ'
/-- the sides at the start of a function -/
theorem st_sides {n' u' a' rc' : Nat} {pd : List (Nat × List Nat × (Nat → Nat))} {T3 : tyJ} (hF : PGF D m) (hf : f ≤ D.fc) (hT : TJ K1 K2 Bc Bm f Rc Rm [] n u a rc T σ τ) (hT3 : TJ K1 K2 Bc Bm f Rc Rm pd n' u' a' rc' T3 σ' τ') (hu : unkC T.1.1 (D.bk f + 1 + (D.bF (f + 1) - D.bF f)) T T1) (e3 : T3.1 = T1.1) (hp : ∀ i, i < D.bk f → rd σ' 67 (D.tV f + i) = i32 ((T.1.1 + i : Nat) : Int)) (hg : ∀ h, D.bF f ≤ h → h < D.bF (f + 1) → rd σ' 67 (D.gv h) = i32 ((T.1.1 + D.bk f + 1 + (h - D.bF f) : Nat) : Int)) : IST D G f T (D.bP f) T3 σ' := by
  have hPf := hF.2.2 f hf
  have z := hT.c0
  have z3 := hT3.c0
  obtain ⟨u1, u2, u3, u4, u5, u6⟩ := hu
  have eN : yN T3 = yN T + (D.bk f + 1 + (D.bF (f + 1) - D.bF f)) := by show T3.1.1 = _; rw [e3]; exact u2
  have eC : yC T3 = yC T := by show T3.1.2.2.1 = T.1.2.2.1; rw [e3, u3]
  have eH : yH T3 = yH T := by show T3.1.2.2.2.1 = T.1.2.2.2.1; rw [e3, u3]
  have eG : ∀ x, x < yN T → (yG T3).1 x = (yG T).1 x ∧ (yG T3).2.1 x = (yG T).2.1 x ∧ (yG T3).2.2 x = (yG T).2.2 x := fun x hx => by
    show T3.1.2.1.1 x = _ ∧ T3.1.2.1.2.1 x = _ ∧ T3.1.2.1.2.2 x = _
    rw [e3]
    exact ⟨u4 x hx, u6 x hx⟩
  have eK : ∀ x, yN T ≤ x → (yG T3).1 x = 0 := fun x hx => by
    by_cases q : x < yN T3
    · have := (u5 (x - yN T) (by omega)).1.2.2.2.1
      rw [show T.1.1 + (x - yN T) = x by show yN T + (x - yN T) = x; omega] at this
      show T3.1.2.1.1 x = 0
      rw [e3]; exact this
    · exact (z3.1 x (by omega)).2
  have hgb : ∀ h, D.bF f ≤ h → h < D.bF (f + 1) → ∃ p, D.bP f ≤ p ∧ p < D.bP (f + 1) ∧ D.K p = 17 ∧ D.vl p = h ∧ D.gv h ∈ D.bd p := fun h h1 h2 => by
    obtain ⟨p, p1, p2, p3, p4⟩ := hPf.2.2.2.2.1 h h1 h2
    exact ⟨p, p1, p2, p3, p4, by unfold pgD.bd; rw [if_pos p3, p4]; exact List.mem_cons_self⟩
  have hvn : ∀ v, tvd D f (D.bP f) v → (∃ i, i < D.bk f ∧ v = D.tV f + i ∧ vT σ' v = yN T + i) ∨ ∃ h, D.bF f ≤ h ∧ h < D.bF (f + 1) ∧ v = D.gv h ∧ vT σ' v = yN T + D.bk f + 1 + (h - D.bF f) := by
    have hN3 := z3.2.2.2.2.2.2
    rintro v (⟨d1, d2⟩ | ⟨h, d1, d2, d3⟩ | ⟨r, c, d1, d2, d3, d4, d5, d6⟩)
    · refine .inl ⟨v - D.tV f, by omega, by omega, ?_⟩
      have := hp (v - D.tV f) (by omega)
      rw [show D.tV f + (v - D.tV f) = v by omega] at this
      exact vT_of this (by show yN T + (v - D.tV f) < _; omega)
    · refine .inr ⟨h, d1, d2, d3, ?_⟩
      rw [d3]
      exact vT_of (hg h d1 d2) (by show yN T + D.bk f + 1 + (h - D.bF f) < _; omega)
    · have hr := hPf.2.2.1 r d1 d2
      have := contN.at _ _ _ _ _ hr.2.1 d4
      have := hr.1.2.2.1
      omega
  have pu : ∀ p p', D.bP f ≤ p → p < D.bP (f + 1) → D.K p = 17 → D.bP f ≤ p' → p' < D.bP (f + 1) → D.K p' = 17 → D.vl p = D.vl p' → p = p' := fun p p' p1 p2 p3 q1 q2 q3 e => by
    refine hPf.2.2.2.2.2.2 p p' (D.gv (D.vl p)) p1 p2 q1 q2 ?_ ?_
    · unfold pgD.bd; rw [if_pos p3]; exact List.mem_cons_self
    · unfold pgD.bd; rw [if_pos q3, e]; exact List.mem_cons_self
  have ch : ∀ x, ∃ y : Nat, (x < yN T → y = 0) ∧ ∀ p, D.bP f ≤ p → p < D.bP (f + 1) → D.K p = 17 → yN T + D.bk f + 1 + (D.vl p - D.bF f) = x → y = p := fun x => by
    by_cases hx : ∃ p, D.bP f ≤ p ∧ p < D.bP (f + 1) ∧ D.K p = 17 ∧ yN T + D.bk f + 1 + (D.vl p - D.bF f) = x
    · obtain ⟨p, p1, p2, p3, p4⟩ := hx
      refine ⟨p, fun k => by omega, fun p' q1 q2 q3 q4 => pu p p' p1 p2 p3 q1 q2 q3 ?_⟩
      have r1 := (hPf.2.2.1 _ p1 p2).2.2.2.2.2.2.1 p3
      have r2 := (hPf.2.2.1 _ q1 q2).2.2.2.2.2.2.1 q3
      omega
    · exact ⟨0, fun _ => rfl, fun p p1 p2 p3 p4 => absurd ⟨p, p1, p2, p3, p4⟩ hx⟩
  obtain ⟨tg, htg⟩ := Classical.axiomOfChoice ch
  have t0 : ∀ x, x < yN T → tg x = 0 := fun x hx => (htg x).1 hx
  have tp : ∀ p, D.bP f ≤ p → p < D.bP (f + 1) → D.K p = 17 → tg (yN T + D.bk f + 1 + (D.vl p - D.bF f)) = p := fun p p1 p2 p3 => (htg _).2 p p1 p2 p3 rfl
  refine ⟨⟨tg, ?_⟩, fun v hv => ?_, by omega, eG, eC, fun t u _ => by rw [eH]⟩
  · intro p1 X b1 b2 hc
    refine ⟨fun x y e => ?_, fun x hk => ?_, fun x u hx => ?_, fun q h1 h2 => by omega, fun r v r1 r2 hv hd => ?_, fun q i h1 h2 => by omega⟩
    · rw [eC] at e
      by_cases q1 : x < yN T
      · by_cases q2 : y < yN T
        · rw [t0 x q1, t0 y q2]; exact .inr Iff.rfl
        · have := z.2.1 x q1; have := (z.1 y (by omega)).1; omega
      · by_cases q2 : y < yN T
        · have := z.2.1 y q2; have := (z.1 x (by omega)).1; omega
        · have := (z.1 y (by omega)).1; have := (z.1 x (by omega)).1
          rw [show x = y by omega]; exact .inr Iff.rfl
    · have hx : x < yN T := by
        apply Classical.byContradiction
        intro q
        have := eK x (by omega)
        omega
      obtain ⟨e1, e2, e3'⟩ := eG x hx
      rw [e1] at hk ⊢
      rw [e2, e3', t0 x hx]
      have k := z.2.2.2.1 x hk
      exact ⟨.inr (by rw [t0 _ k.1]), fun h3 => .inr (by rw [t0 _ (k.2 h3)])⟩
    · rw [eC, eH] at hx
      have k := z.2.2.2.2.1 x u hx
      have hx' : x < yN T := by
        apply Classical.byContradiction
        intro q
        have := (z.1 x (by omega)).1; omega
      exact .inr (by rw [t0 x hx', t0 u k.2])
    · rcases hvn v hd with ⟨i, i1, i2, i3⟩ | ⟨h, h1, h2, h3, h4⟩
      · have := (hPf.2.2.1 r r1 r2).2.2.2.2.2.2.2 v hv; omega
      · obtain ⟨p, p1', p2', p3', p4', p5'⟩ := hgb h h1 h2
        have e := hPf.2.2.2.2.2.2 r p v r1 r2 p1' p2' hv (by rw [h3]; exact p5')
        rw [h4, ← p4', e]
        exact .inr (by rw [tp p p1' p2' p3'])
  · rcases hvn v hv with ⟨i, i1, i2, i3⟩ | ⟨h, h1, h2, h3, h4⟩
    · rw [i3]; omega
    · rw [h4]; omega
/-- a copy that is just made -/
theorem PEN.cph {pd : List (Nat × List Nat × (Nat → Nat))} {Nk q : Nat} {ce : Nat → Nat} {T4 : tyJ} (h : PEN D G Bc pd T4 Nk ce σ q) (hT : TJ K1 K2 Bc Bm f Rc Rm pd n u a rc T4 σ τ) (hK : KP Nk ce σ) (hS : SAT T T4) (hB : Bc ≤ yN T) (hX : ∀ i, i < D.cn G q → G.XC (D.vl q) i < yN T) (zT : ∀ x, x < yN T → yC T x < yN T) (zk : ∀ x, 2 ≤ (yG T).1 x → (yG T).2.1 x < yN T ∧ ((yG T).1 x ≠ 3 → (yG T).2.2 x < yN T)) (zh : ∀ x u, yH T (yC T x) u → yC T x < yN T ∧ u < yN T) : ∃ (SL : List Nat) (im : Nat → Nat), CPH T T4 SL im ∧ ∀ i, i < D.cn G q → cov (yG T) (yC T) SL im (G.XC (D.vl q) i) (cT σ q i) := by
  have h' := h
  obtain ⟨n0, a1, a2, a3, SL, im, a4, a5⟩ := h
  obtain ⟨s1, s2, s3, s4⟩ := hS
  obtain ⟨⟨c1, c2⟩, c3⟩ := hT.2.2.2.1.1 _ a4
  have c1 : ∀ t, t ∈ SL → yC T4 t = t ∧ (yG T4).1 t ≠ 1 ∧ yC T4 (im t) = im t ∧ (∀ y, yC T4 y = im t → y = im t) ∧ (yG T4).1 (im t) = (yG T4).1 t ∧ (2 ≤ (yG T4).1 t → cov (yG T4) (yC T4) SL im ((yG T4).2.1 t) ((yG T4).2.1 (im t)) ∧ ((yG T4).1 t ≠ 3 → cov (yG T4) (yC T4) SL im ((yG T4).2.2 t) ((yG T4).2.2 (im t)))) ∧ (∀ u, yH T4 t u → (yG T4).1 (yC T4 u) ≠ 1 → ∃ v, yH T4 (im t) v ∧ cov (yG T4) (yC T4) SL im u v) ∧ (∀ v, yH T4 (im t) v → ∃ u, yH T4 t u ∧ (yG T4).1 (yC T4 u) ≠ 1 ∧ cov (yG T4) (yC T4) SL im u v) := c1
  have c3 : ∀ t, t ∈ SL → t < Bc ∧ t ≠ 0 ∧ Bc ≤ im t ∧ im t < T4.1.1 ∧ ∀ y, ¬ T4.2.2 (im t) y := c3
  have cv : ∀ u v, u < yN T → cov (yG T4) (yC T4) SL im u v → cov (yG T) (yC T) SL im u v := fun u v hu k => by
    unfold cov at k ⊢
    rw [s3, (s2 _ (zT u hu)).1] at k
    exact k
  refine ⟨SL, im, fun t ht => ?_, fun i hi => ?_⟩
  · obtain ⟨d1, d2, d3, d4, d5, d6, d7, d8⟩ := c1 t ht
    have tN : t < yN T := by have := (c3 t ht).1; omega
    obtain ⟨e1, e2, e3⟩ := s2 t tN
    rw [e1, e2, e3] at d6
    rw [e1] at d5
    refine ⟨fun hk => ⟨(yG T4).2.1 (im t), (yG T4).2.2 (im t), cv _ _ (zk t hk).1 (d6 hk).1, fun h3 => cv _ _ ((zk t hk).2 h3) ((d6 hk).2 h3), by rw [d3]; exact d5, by rw [d3], fun _ => by rw [d3]⟩, fun u hu hk => ?_⟩
    have et : yC T t = t := by rw [← s3]; exact d1
    have hu' : yH T (yC T t) u := by rw [et]; exact hu
    have hu4 := (s4 t u (by rw [et]; exact tN)).mpr hu'
    rw [et] at hu4
    have uN := (zh t u hu').2
    obtain ⟨v, v1, v2⟩ := d7 u hu4 (by rw [s3, (s2 _ (zT u uN)).1]; exact hk)
    exact ⟨v, v, cv u v uN v2, by rw [d3]; exact v1, rfl⟩
  · obtain ⟨n0', b1, b2, b3, b4⟩ := h'.ct hT hK hi
    have e : n0' = n0 := by
      have := (i32_inj (by have := hK.2.1; have := hT.l70; omega) (by have := hK.2.1; have := hT.l70; omega) (by have := hK.2.1; have := hT.l70; omega) (by have := hK.2.1; have := hT.l70; omega)).mp (b1.symm.trans a1)
      omega
    rw [b3, e]
    exact cv _ _ (hX i hi) (a5 i hi)
theorem fn_types {cx rl Nk Nm : Nat} {ce cm : Nat → Nat} (hF : PGF D m) (hf : f ≤ D.fc) (hK2 : 6 ≤ K2) (hR : PGR D σ τ) (hO : OLF D G f Bc Bm Rc Rm T σ τ) (hK : KP Nk ce σ) (hM : KM Nm cm τ) (h5 : rd τ 123 5 = 0) (h13 : ∀ l, l < m → rd σ 13 l = rd τ 127 l) (hNm : Nm + 30 * rc ≤ 60000) (hrl : rl + ocn D f (D.bP f) (D.bP (f + 1) - D.bP f) ≤ rc)
    (hT : TJ K1 K2 Bc Bm f Rc Rm [] (n + 5 * (D.bP (f + 1) - D.bP f)) (u + (D.tV (f + 1) - D.tV f + 1) + (D.bk f + 1 + (D.bF (f + 1) - D.bF f))) (a + (D.bP (f + 1) - D.bP f)) rc T σ τ) (hcr : CRM cx (ocn D f (D.bP f) (D.bP (f + 1) - D.bP f)) (n + 5 * (D.bP (f + 1) - D.bP f)) (u + (D.tV (f + 1) - D.tV f + 1) + (D.bk f + 1 + (D.bF (f + 1) - D.bF f))) (a + (D.bP (f + 1) - D.bP f)) Nk T) (d dm : Nat) (v2 v3 v4 w2 : Value) :
    (∃ (σ' τ' : tvS) (T' : tyJ) (pd' : List (Nat × List Nat × (Nat → Nat))) (rc' : Nat), rn L xs (d + 7) 142 0 [.ref 65, .int (i32 (f : Int)), v2, v3, v4] [] σ = some (.inl none, σ') ∧ rn L xs (dm + 9) 332 0 [.ref 123, .int (i32 (f : Int)), w2] [] τ = some (.inl none, τ') ∧ TYI K1 K2 Bc Bm f Rc Rm D G rl (D.bP (f + 1)) (D.bP (f + 1)) n u a pd' rc' T' σ' τ' ∧ frT FC42 FT42 [8, 11, 12, 14] σ σ' ∧ frM FM42 FMF τ τ' ∧ GHO D G f (D.bP (f + 1)) (D.bP (f + 1)) T T' σ' ∧ exT Bc Bm T T' ∧ (T'.1.2.2.2.2.1 + 100 * cx < 212000 ∧ ∃ (Nk' : Nat) (ce' : Nat → Nat), KP Nk' ce' σ' ∧ Nk' + 30 * cx ≤ 32768) ∧ ORc D f σ σ' ∧ ORm D f τ τ') ∨
    TYG K1 K2 σ τ (rn L xs (d + 7) 142 0 [.ref 65, .int (i32 (f : Int)), v2, v3, v4] [] σ) (rn L xs (dm + 9) 332 0 [.ref 123, .int (i32 (f : Int)), w2] [] τ) := by
  have hb4 := hF.1
  have hbl := (hF.le (D.fc + 1 - (f + 1)) (f + 1) (by omega))
  have hPf := hF.2.2 f hf
  have hV := hF.V hf
  have hgvb : ∀ h, D.bF f ≤ h → h < D.bF (f + 1) → ∃ p, D.bP f ≤ p ∧ p < D.bP (f + 1) ∧ D.K p = 17 ∧ D.vl p = h ∧ D.tV f + D.bk f ≤ D.gv h ∧ D.gv h < D.tV (f + 1) ∧ D.bd p = [D.gv h] := fun h h1 h2 => by
    obtain ⟨p, p1, p2, p3, p4⟩ := hPf.2.2.2.2.1 h h1 h2
    have hbd : D.bd p = [D.gv h] := by unfold pgD.bd; rw [if_pos p3, p4]
    have := (hPf.2.2.1 p p1 p2).2.2.2.2.2.2.2 (D.gv h) (by rw [hbd]; exact List.mem_cons_self)
    exact ⟨p, p1, p2, p3, p4, this.1, this.2, hbd⟩
  have hinj : ∀ p q, D.bF f ≤ p → p < D.bF (f + 1) → D.bF f ≤ q → q < D.bF (f + 1) → D.gv p = D.gv q → p = q := fun p q h1 h2 h3 h4 e => by
    obtain ⟨p', p1, p2, p3, p4, _, _, p5⟩ := hgvb p h1 h2
    obtain ⟨q', q1, q2, q3, q4, _, _, q5⟩ := hgvb q h3 h4
    have := hPf.2.2.2.2.2.2 p' q' (D.gv p) p1 p2 q1 q2 (by rw [p5]; exact List.mem_cons_self) (by rw [q5, e]; exact List.mem_cons_self)
    rw [← p4, ← q4, this]
  -- unknowns of the component
  obtain ⟨s1, T1, x4, a1, a2, a3, a4, a5, a6, a7, a8, a9, a10⟩ := st_comp (L := L) (xs := xs) hF hf hR hT (d + 3) v2 v3 v4
  have hR1 : PGR D s1 τ := hR.fr (S' := []) (F' := []) a10 frM.refl rfl rfl
  -- of the model
  obtain ⟨t1, T2, b1, b2, b3, b4, b5, b6, b7, b8, b9, b10, b11⟩ := st_mod (L := L) (xs := xs) (u := u) hF hf hR1 h5 a2 (dm + 6) w2
  have eM : T1.2.1.1 = T.2.1.1 := by rw [a4.1]
  rw [eM] at b4 b5 b6
  have hR2 : PGR D s1 t1 := hR1.fr (S := []) (T := []) (F := []) frT.refl b10 rfl rfl
  have e21 : T2.1 = T1.1 := b4.1
  have e22 : T2.2.2 = T1.2.2 := b4.2.1
  -- mates
  obtain ⟨T3, c1, c2, c3, c4, c5, c6⟩ := TJ.pairs (x := fun i => T.1.1 + i) (y := fun i => if i < D.bk f then T.2.1.1 + i else if i = D.bk f then T.2.1.1 + (D.tV (f + 1) - D.tV f) else T.2.1.1 + (D.gv (D.bF f + (i - D.bk f - 1)) - D.tV f)) b2 (D.bk f + 1 + (D.bF (f + 1) - D.bF f)) (fun i hi => by
      obtain ⟨l1, l2⟩ := a4.2.2.2.2.1 i hi
      have hy : ∀ k, k < D.tV (f + 1) - D.tV f + 1 → lone T2.2.1.1 T2.2.1.2.1 T2.2.1.2.2.1 T2.2.1.2.2.2.1 (T.2.1.1 + k) ∧ ∀ q, ¬ T2.2.2 q (T.2.1.1 + k) := b4.2.2.2.2.2
      refine ⟨by rw [e21]; exact l1, ?_⟩
      have key : ∀ k, k < D.tV (f + 1) - D.tV f + 1 → lone T2.2.1.1 T2.2.1.2.1 T2.2.1.2.2.1 T2.2.1.2.2.2.1 (T.2.1.1 + k) ∧ (∀ q, ¬ T2.2.2 (T.1.1 + i) q) ∧ ∀ q, ¬ T2.2.2 q (T.2.1.1 + k) := fun k hk => ⟨(hy k hk).1, fun q => by rw [e22]; exact l2 q, (hy k hk).2⟩
      have hle := hPf.1.2.1
      by_cases q1 : i < D.bk f
      · simp only [if_pos q1]; exact key i (by omega)
      · by_cases q2 : i = D.bk f
        · simp only [if_neg q1, if_pos q2]; exact key _ (by omega)
        · simp only [if_neg q1, if_neg q2]
          obtain ⟨_, _, _, _, _, g1, g2, _⟩ := hgvb (D.bF f + (i - D.bk f - 1)) (by omega) (by omega)
          exact key _ (by omega)) (fun i j _ _ e => by have e : T.1.1 + i = T.1.1 + j := e; omega) (fun i j hi hj e => by
      have hle := hPf.1.2.1
      have gvr : ∀ k, ¬ k < D.bk f → ¬ k = D.bk f → k < D.bk f + 1 + (D.bF (f + 1) - D.bF f) → D.tV f + D.bk f ≤ D.gv (D.bF f + (k - D.bk f - 1)) ∧ D.gv (D.bF f + (k - D.bk f - 1)) < D.tV (f + 1) := fun k k1 k2 k3 => by
        obtain ⟨_, _, _, _, _, g1, g2, _⟩ := hgvb (D.bF f + (k - D.bk f - 1)) (by omega) (by omega)
        exact ⟨g1, g2⟩
      by_cases q1 : i < D.bk f
      · by_cases p1 : j < D.bk f
        · simp only [if_pos q1, if_pos p1] at e; omega
        · by_cases p2 : j = D.bk f
          · simp only [if_pos q1, if_neg p1, if_pos p2] at e; omega
          · simp only [if_pos q1, if_neg p1, if_neg p2] at e
            have := gvr j p1 p2 hj; omega
      · by_cases q2 : i = D.bk f
        · by_cases p1 : j < D.bk f
          · simp only [if_neg q1, if_pos q2, if_pos p1] at e; omega
          · by_cases p2 : j = D.bk f
            · omega
            · simp only [if_neg q1, if_pos q2, if_neg p1, if_neg p2] at e
              have := gvr j p1 p2 hj; omega
        · have g1 := gvr i q1 q2 hi
          by_cases p1 : j < D.bk f
          · simp only [if_neg q1, if_neg q2, if_pos p1] at e; omega
          · by_cases p2 : j = D.bk f
            · simp only [if_neg q1, if_neg q2, if_neg p1, if_pos p2] at e; omega
            · simp only [if_neg q1, if_neg q2, if_neg p1, if_neg p2] at e
              have g2 := gvr j p1 p2 hj
              have := hinj (D.bF f + (i - D.bk f - 1)) (D.bF f + (j - D.bk f - 1)) (by omega) (by omega) (by omega) (by omega) (by omega)
              omega)
  have x13 : exT Bc Bm T T3 := a3.trans (b3.trans c2)
  have hO3 : OLF D G f Bc Bm Rc Rm T3 s1 t1 := (hO.ex x13).to2 hV (fun j hj i => a10.rd (j := j) (inL_off rfl j hj) i) (fun g hg => a9 g (by omega)) (fun v hv => a8 v hv) (a10.1.2.2 73 rfl).1 (fun j hj i => b10.rd (j := j) (inL_off rfl j hj) i) (fun g hg => b9 g (by omega)) (fun v hv => b8 v hv)
  have hK1 : KP Nk ce s1 := ⟨(a10.rd (j := 65) rfl 9).trans hK.1, by rw [(a10.1.2.2 70 rfl).1]; exact hK.2.1, fun i hi => (a10.rd (j := 70) rfl i).trans (hK.2.2 i hi)⟩
  have eT : T3.1 = T1.1 := c3.trans e21
  have hcr3 : CRM cx (ocn D f (D.bP f) (D.bP (f + 1) - D.bP f)) (n + 5 * (D.bP (f + 1) - D.bP f)) u (a + (D.bP (f + 1) - D.bP f)) Nk T3 := by
    obtain ⟨g1, g2, g3, g4⟩ := hcr
    unfold CRM
    rw [eT, a4.2.1, a4.2.2.1]
    exact ⟨by omega, g2, g3, g4⟩
  have hle := hPf.1
  -- copies
  obtain ⟨s2, T4, pd4, Nk', ce', w3, w4, z1, z2, z3, z4, z5, z6, z7, z7', z8, z9⟩ := cp_loop (L := L) (xs := xs) (cx := cx) hF hf (d + 1) (i32 (D.bP f : Int)) (D.bP (f + 1) - D.bP f) (D.bP f) [] T3 Nk ce s1 x4 (by omega) (Nat.le_refl _) c1 hR2 hO3 hK1 hcr3 (fun q h1 h2 => by omega) (st_sides hF hf hT c1 a4 eT a5 a7)
  have hBc : Bc ≤ T.1.1 := hT.2.1.2.1
  have hBm : Bm ≤ T.2.1.1 := hT.2.2.1.2.1
  have kidge : ∀ r c : Nat, D.bP f ≤ r → r < D.bP (f + 1) → (D.kd r)[0]? = some c → D.bP f ≤ c := fun r c h1 h2 h3 => by
    have hp := hPf.2.2.1 r h1 h2
    have := contN.at _ _ _ _ _ hp.2.1 h3
    have := hp.1.2.2.1
    omega
  have hI : TYI K1 K2 Bc Bm f Rc Rm D G rl (D.bP f) (D.bP f) (n + 5 * (D.bP (f + 1) - D.bP f)) u (a + (D.bP (f + 1) - D.bP f)) pd4 rc T4 s2 t1 := by
    refine ⟨z2, hR2.fr (S' := []) (F' := []) z8 frM.refl rfl rfl, (hO3.ex z3).to hV (fun j hj i => z8.rd (j := j) (inL_off rfl j hj) i) (fun v _ => z8.rd (j := 67) rfl v) (z8.1.2.2 73 rfl).1 (fun _ _ _ => rfl) (fun _ _ => rfl), ⟨Nk', ce', Nm, cm, z4, z2.l70, hM.fr b10 rfl rfl, hNm, by rw [z6]; show rl + (0 + _) ≤ rc; omega, fun q h1 h2 h3 h4 => ?_⟩, fun q h1 h2 => by omega, fun v hv => ?_, fun r c h1 h2 h3 h4 h5 => ?_, ?_⟩
    · obtain ⟨n0, g1, g2, g3, SL, im, g4, g5⟩ := z7 q h1 h2 h3 h4
      exact ⟨n0, g1, g2, g3, .inl ⟨b7 q h1 h2, SL, im, g4, g5⟩⟩
    · rw [z8.rd (j := 67) rfl]
      rcases hv with ⟨h1, h2⟩ | ⟨h, h1, h2, h3⟩ | ⟨r, c, h1, h2, h3, h4, h5, h6⟩
      · have e1 := a5 (v - D.tV f) (by omega)
        rw [show D.tV f + (v - D.tV f) = v by omega] at e1
        have e2 := c5 (v - D.tV f) (by omega)
        simp only [if_pos (show v - D.tV f < D.bk f by omega)] at e2
        exact ⟨_, _, e1, b5 v h1 (by omega), z3.1 _ _ e2, .inl (by omega), .inl (by omega)⟩
      · obtain ⟨_, _, _, _, _, g1, g2, _⟩ := hgvb h h1 h2
        have e2 := c5 (D.bk f + 1 + (h - D.bF f)) (by omega)
        simp only [if_neg (show ¬ D.bk f + 1 + (h - D.bF f) < D.bk f by omega), if_neg (show ¬ D.bk f + 1 + (h - D.bF f) = D.bk f by omega)] at e2
        rw [show D.bF f + (D.bk f + 1 + (h - D.bF f) - D.bk f - 1) = h by omega] at e2
        subst h3
        exact ⟨_, _, (a7 h h1 h2).trans (by rw [show T.1.1 + D.bk f + 1 + (h - D.bF f) = T.1.1 + (D.bk f + 1 + (h - D.bF f)) by omega]), b5 _ (by omega) g2, z3.1 _ _ e2, .inl (by omega), .inl (by omega)⟩
      · have := kidge r c h1 h2 h4; omega
    · have := kidge r c h1 h2 h4; omega
    · have e2 := c5 (D.bk f) (by omega)
      simp only [if_neg (Nat.lt_irrefl (D.bk f)), if_pos] at e2
      exact ⟨_, _, (z8.rd (j := 68) rfl f).trans a6, b6, z3.1 _ _ e2, .inl (by omega), .inl (by omega)⟩
  have zT := hT.c0
  have hg : GHO D G f (D.bP f) (D.bP f) T T4 s2 := ⟨z7'.1, fun q h1 h2 => by omega, fun q h1 h2 => by omega, fun q h1 h2 h3 h4 => (z7 q h1 h2 h3 h4).cph z2 z4 z7'.2.2 hBc (fun i hi => by
    have := ((hO _ h4).2.2.2 i hi).2.1.1
    have : G.XC (D.vl q) i < T.1.1 := by omega
    exact this) zT.2.1 zT.2.2.2.1 zT.2.2.2.2.1⟩
  have wc : frT FC42 FT42 [8, 11, 12, 14] σ s2 := (a10.sub rfl rfl rfl).trans (z8.sub rfl rfl rfl)
  have wm : frM FM42 FMF τ t1 := b10.sub rfl rfl
  have hc : rn L xs (d + 7) 142 0 [.ref 65, .int (i32 (f : Int)), v2, v3, v4] [] σ = rn L xs (d + 7) 142 171 [.ref 65, .int (i32 (f : Int)), .int (i32 (D.bP f : Int)), .int (i32 (D.bP f : Int)), w4] [] s2 := by
    have a1 : rn L xs (d + 7) 142 0 [.ref 65, .int (i32 (f : Int)), v2, v3, v4] [] σ = rn L xs (d + 7) 142 119 [.ref 65, .int (i32 (f : Int)), .int (i32 (D.bP f : Int)), .int (i32 (D.bP f : Int)), x4] [] s1 := a1
    have z1 : rn L xs (d + 7) 142 119 [.ref 65, .int (i32 (f : Int)), .int (i32 (D.bP f : Int)), .int (i32 (D.bP f : Int)), x4] [] s1 = rn L xs (d + 7) 142 169 [.ref 65, .int (i32 (f : Int)), .int (i32 (D.bP f : Int)), w3, w4] [] s2 := z1
    rw [a1, z1, e142_169 (d + 6)]
  have hm : rn L xs (dm + 9) 332 0 [.ref 123, .int (i32 (f : Int)), w2] [] τ = rn L xs (dm + 9) 332 98 [.ref 123, .int (i32 (f : Int)), .int (i32 (D.bP f : Int))] [] t1 := b1
  rw [hc, hm]
  rcases typ_loop (L := L) (xs := xs) (n := n) (a := a) hF hf hK2 d dm (D.bP (f + 1) - D.bP f) (D.bP f) pd4 rc T4 s2 t1 (.int (i32 (D.bP f : Int))) w4 (by omega) (Nat.le_refl _) hI hg ((wm.2 5 rfl).trans h5) (fun l hl => by rw [wc.rd (j := 13) rfl, wm.rd (j := 127) rfl]; exact h13 l hl) with ⟨σ3, τ3, T5, pd5, rc5, y1, y2, y3, y4, y5, y6, y7, y8, y9⟩ | ⟨σ0, τ3, yy, y1, y2, y3, y4, y5, y6, y7⟩
  · have oc1 : ORc D f σ s1 := ⟨fun i _ => ⟨a10.rd (j := 66) rfl i, a10.rd (j := 69) rfl i⟩, a8, fun g hg => a9 g (by omega), by rw [a10.rd (j := 65) rfl]; exact Int.le_refl _, fun i _ => a10.rd (j := 70) rfl i, fun i _ => a10.rd (j := 65) rfl i⟩
    have hH : T5.1.2.2.2.2.1 = T4.1.2.2.2.2.1 := by
      obtain ⟨_, _, _, ⟨g1, g2, _⟩, _, _, g3, _⟩ := z2.1.1
      obtain ⟨_, _, _, ⟨k1, k2, _⟩, _, _, k3, _⟩ := y3.1.1.1
      have l1 := g3.le (k := 59) (M := 212992) (by decide)
      have l2 := k3.le (k := 59) (M := 212992) (by decide)
      have e := y4.2 11 rfl
      rw [g1, k1] at e
      have := (i32_inj (by omega) (by omega) (by omega) (by omega)).mp e
      omega
    refine .inl ⟨σ3, τ3, T5, pd5, rc5, y1, y2, y3, wc.trans (y4.sub rfl rfl rfl), wm.trans (y5.sub rfl rfl), y6, x13.trans (z3.trans y7), ⟨by rw [hH]; exact z5.2.1, Nk', ce', ⟨?_, ?_, fun i hi => ?_⟩, z5.2.2.2⟩, ORc.trans oc1 (z9.trans y8), ORm.trans b11 y9⟩
    · rw [y4.rd (j := 65) rfl]; exact z4.1
    · rw [(y4.1.2.2 70 rfl).1]; exact z4.2.1
    · rw [y4.rd (j := 70) rfl]; exact z4.2.2 i hi
  · have hL : ln σ0 60 = ln σ0 59 := by
      obtain ⟨_, _, _, hHO, _⟩ := z2.1.1
      rw [(y6.1.2.2 60 rfl).1, (y6.1.2.2 59 rfl).1]; exact hHO.2.2.1
    exact .inr ⟨σ0, τ3, yy, y1, y2, y3, y4, ⟨y5, hL⟩, wc.trans (y6.sub rfl rfl rfl), (wm.sub rfl rfl).trans (y7.sub rfl rfl)⟩
end FNTYPES
