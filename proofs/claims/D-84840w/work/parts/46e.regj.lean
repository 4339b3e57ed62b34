/-! REGIONS, BOTH: what is held and who owns is the same -/
section REGJ
variable {L : Nat} {xs : Nat → Int32} {σ σ' τ τ' : tvS} {K1 K2 Bc Bm f : Nat} {Rc Rm : Nat → Nat → Prop} {pd : List (Nat × List Nat × (Nat → Nat))} {n u a rc rl : Nat} {T T0 : tyJ} {D : pgD} {G : sgD} {m : Nat}
theorem TGT.uniq {rb : Nat → Prop} {q : Nat} {o o' : Int} (h : TGT D f rb q o) (h' : TGT D f rb q o') : o = o' := by
  rcases h with ⟨h1, h2⟩ | ⟨p, h1, h2, h3, h4, h5, h6⟩
  · rcases h' with ⟨k1, k2⟩ | ⟨p', k1, k2, k3, k4, k5, k6⟩
    · omega
    · exact absurd (h2 p' k1 k2 k4) k5
  · rcases h' with ⟨k1, k2⟩ | ⟨p', k1, k2, k3, k4, k5, k6⟩
    · exact absurd (k2 p h1 h2 h4) h5
    · by_cases c : p < p'
      · exact absurd (k6 p h1 c h4) h5
      · by_cases c' : p' < p
        · exact absurd (h6 p' k1 c' k4) k5
        · omega
/-- which number a put has -/
def nuP (D : pgD) (G : sgD) (f : Nat) (r : Nat → Nat) (R : List Nat) (τ : tvS) (q i k : Nat) : Prop := D.bP f ≤ q ∧ q < D.bP (f + 1) ∧ i < D.np G f q ∧ R[k]? = some (r (pnM D τ q i))
/-- the fault of both -/
def RGF (K1 K2 : Nat) (σ τ : tvS) (R R' : tvR) : Prop := ∃ (s τ' : tvS) (y : Int32), R = some (.inr (1016, (rm s).1), cFlt s 6 y) ∧ R' = some (.inl none, τ') ∧ rd τ' 123 5 = 6 ∧ rd τ' 123 6 = y ∧ RLQ K1 K2 s
/-- what has come of it -/
def RGO (D : pgD) (G : sgD) (K1 K2 f n0 fst : Nat) (pe0 : Nat → Nat) (T T' : tyJ) (Bm : Nat) (bl R : List Nat) (ow : Nat → Int) (pe : Nat → Nat) (σ τ σ' τ' : tvS) : Prop :=
  (T'.1.1 = T.1.1 ∧ T'.1.2.1 = T.1.2.1 ∧ T'.1.2.2.1 = T.1.2.2.1) ∧ (T'.2.1.1 = T.2.1.1 ∧ T'.2.1.2.1 = T.2.1.2.1 ∧ T'.2.1.2.2.1 = T.2.1.2.2.1) ∧ T'.2.2 = T.2.2 ∧ TJ0 K1 K2 T' σ' τ' ∧ hGe (yC T) (yH T) (yH T') ∧ hGe T.2.1.2.2.1 T.2.1.2.2.2.1 T'.2.1.2.2.2.1 ∧
  (bl.length ≤ 60 ∧ bl.length = R.length ∧ NMz T.2.2 bl R ∧ BXL f fst bl σ' ∧ NUM Bm R τ' ∧ (∀ t, t < Bm → rd τ' 184 t = rd τ 184 t)) ∧
  (QP (n0 + (puL D G f (D.bP (f + 1) - D.bP f)).length) pe σ' ∧ (∀ i, i < n0 + (puL D G f (D.bP (f + 1) - D.bP f)).length → pe i < T.1.1) ∧ (∀ (i : Nat) (e : Nat × Nat), (puL D G f (D.bP (f + 1) - D.bP f))[i]? = some e → pe (n0 + i) = pnC D σ e.1 e.2)) ∧
  (∀ p, D.bP f ≤ p → p ≤ D.bP (f + 1) → rd σ' 77 p = i32 (frO D G f n0 p : Int) ∧ rd σ' 78 p = i32 (svO D f p : Int)) ∧
  (∀ k, k < R.length → rd τ' 186 k = i32 (ow k) ∧ -1 ≤ ow k ∧ ow k < 4101) ∧ (∀ (i k : Nat) (e : Nat × Nat), (puL D G f (D.bP (f + 1) - D.bP f))[i]? = some e → nuP D G f T.2.1.2.2.1 R τ e.1 e.2 k → rd σ' 76 (n0 + i) = i32 (ow k) ∧ TGT D f (fun p => rBx D f (yG T) (yC T) (yH T') σ p (pnC D σ e.1 e.2)) e.1 (ow k)) ∧
  frG FRC [59, 60, 61, 75, 76, 81, 82] σ σ' ∧ (∀ i, inL [11, 12, 14, 15] i = false → rd σ' 50 i = rd σ 50 i) ∧ (∀ i, i ≠ 7 → i ≠ 14 → rd σ' 74 i = rd σ 74 i) ∧ ((∀ i, i < fst → rd σ' 81 i = rd σ 81 i ∧ rd σ' 82 i = rd σ 82 i) ∧ ∀ g, g ≠ f → rd σ' 79 g = rd σ 79 g ∧ rd σ' 80 g = rd σ 80 g) ∧ (∀ t, T.2.1.2.2.1 t = t → 2 ≤ T.2.1.2.1.1 t → RQ T.2.1.2.1 T.2.1.2.2.1 T'.2.1.2.2.2.1 (FTm D f τ) t → Bm ≤ t) ∧ (∃ S0 : Nat, rd τ 202 f = i32 ((S0 + 1 : Nat) : Int) ∧ rd τ' 123 94 = i32 ((S0 + 1 : Nat) : Int)) ∧ (bl = bxL (yC T) ((puL D G f (D.bP (f + 1) - D.bP f)).map (fun e => pnC D σ e.1 e.2)) [] ∧ R = nmK D G f T.2.1.2.2.1 τ (D.bP (f + 1) - D.bP f) ∧ (∀ i, i < n0 → pe i = pe0 i) ∧ ∃ pt by' : Nat → Nat, FNP D f pt by' ∧ (∀ j, D.bF f ≤ j → j < D.bF (f + 1) → (yG T).1 (yC T (oT σ (pt j))) = 4) ∧ (∀ t v, yC T t = t → (LFc D G f (yG T) (yC T) (yH T) pt by' σ t v ↔ hQ (yC T) (yH T') t v)) ∧ (∀ j, D.bF f ≤ j → j < D.bF (f + 1) → T.2.1.2.1.1 (T.2.1.2.2.1 (oM τ (pt j))) = 4) ∧ ∀ t v, T.2.1.2.2.1 t = t → (LFm D G f T.2.1.2.1 T.2.1.2.2.1 T.2.1.2.2.2.1 pt by' τ t v ↔ hQ T.2.1.2.2.1 T'.2.1.2.2.2.1 t v)) ∧ frX FRX [72, 73, 84, 87, 90, 94] [187, 188, 189] τ τ'
theorem reg_joint {n0 fst : Nat} {pe0 : Nat → Nat} {cp : Nat → List (Nat × Nat)} {bS vs us sc : Nat → Nat} {cl : Nat → List Nat} (hF : PGF D m) (hf : f ≤ D.fc) (hK2 : 6 ≤ K2) (hI : TYI K1 K2 Bc Bm f Rc Rm D G rl (D.bP (f + 1)) (D.bP (f + 1)) n u a pd rc T σ τ) (hd : ∀ q, D.bP f ≤ q → q < D.bP (f + 1) → D.K q = 3 → D.vl q < f → ∃ n1 : Nat, rd τ 181 q = i32 (n1 : Int) ∧ n1 < 60000) (hg : GHO D G f (D.bP (f + 1)) (D.bP (f + 1)) T0 T σ) (hO : OLB D G f T0) (hGc : RGC D m cp σ) (hGm : RGM D bS vs us sc cl σ τ)
    (hQP : QP n0 pe0 σ) (hpe0 : ∀ i, i < n0 → pe0 i < T.1.1) (hB : BXS fst σ) (hfst : fst ≤ 1300) (hz : ∀ t, Bm ≤ t → rd τ 184 t = 0) (hn : n0 + (puL D G f (D.bP (f + 1) - D.bP f)).length < 32768) (hl9 : (puL D G f (D.bP (f + 1) - D.bP f)).length ≤ 9999) (h5 : rd τ 123 5 = 0) (h13 : ∀ l, l < m → rd σ 13 l = rd τ 127 l)
    (hHc : T.1.2.2.2.2.1 + 100 * (D.bF (f + 1) - D.bF f) < 212992) (hSc : T.1.2.2.2.2.2 + 2 * (D.bP (f + 1) - D.bP f) * (100 * (D.bF (f + 1) - D.bF f) + 1) < 2147483648) (hHm : T.2.1.2.2.2.2.1 + 100 * (D.bF (f + 1) - D.bF f) < 250000) (hSm : T.2.1.2.2.2.2.2.1 + 8000 * (100 * (D.bF (f + 1) - D.bF f) + 1) < 2147483648) (hSh : T.2.1.2.2.2.2.2.2 + 4001 * (100 * (D.bF (f + 1) - D.bF f) + 1) < 2147483648) (d dm : Nat) (v2 v3 v4 v5 u2 u3 : Value) :
    RGF K1 K2 σ τ (rn L xs (d + 5) 163 0 [.ref 74, .int (i32 (f : Int)), v2, v3, v4, v5] [] σ) (rn L xs (dm + 6) 348 51 [.ref 123, .int (i32 (f : Int)), u2, u3] [] τ) ∨
    ∃ (σ' τ' : tvS) (T' : tyJ) (bl R : List Nat) (ow : Nat → Int) (pe : Nat → Nat) (w3 w4 w5 x3 : Value), rn L xs (d + 5) 163 0 [.ref 74, .int (i32 (f : Int)), v2, v3, v4, v5] [] σ = rn L xs (d + 5) 163 205 [.ref 74, .int (i32 (f : Int)), .int (i32 (n0 : Int)), w3, w4, w5] [] σ' ∧ rn L xs (dm + 6) 348 51 [.ref 123, .int (i32 (f : Int)), u2, u3] [] τ = rn L xs (dm + 6) 348 149 [.ref 123, .int (i32 (f : Int)), .int 0, x3] [] τ' ∧ RGO D G K1 K2 f n0 fst pe0 T T' Bm bl R ow pe σ τ σ' τ' ∧
      (T'.1.2.2.2.2.1 ≤ T.1.2.2.2.2.1 + 100 * (D.bF (f + 1) - D.bF f) ∧ T'.1.2.2.2.2.2 ≤ T.1.2.2.2.2.2 + 2 * (D.bP (f + 1) - D.bP f) * (100 * (D.bF (f + 1) - D.bF f) + 1) ∧ T'.2.1.2.2.2.2.1 ≤ T.2.1.2.2.2.2.1 + 100 * (D.bF (f + 1) - D.bF f) ∧ T'.2.1.2.2.2.2.2.1 ≤ T.2.1.2.2.2.2.2.1 + 8000 * (100 * (D.bF (f + 1) - D.bF f) + 1) ∧ T'.2.1.2.2.2.2.2.2 ≤ T.2.1.2.2.2.2.2.2 + 4001 * (100 * (D.bF (f + 1) - D.bF f) + 1)) := by
  have hb4 := hF.1
  have hbl := (hF.le (D.fc + 1 - (f + 1)) (f + 1) (by omega))
  have hPf := hF.2.2 f hf
  obtain ⟨r1, r2, r3, r4, r5, r6, r7, r8, r9⟩ := hI.reg hF hf hd
  obtain ⟨hT, hR, hOL, hCA, hS⟩ := id hI
  obtain ⟨⟨hCT, hMY, hJ⟩, fC, fM, hP, hBD⟩ := id hT
  obtain ⟨pt, by', hpt⟩ := hF.fnp hf
  have hz0 := hT.c0
  obtain ⟨hl, hv, ⟨m1, m2, m3, m4, m5⟩, gM, m6, m7⟩ := hMY
  obtain ⟨gC, tC, hKc⟩ : gP (yG T) (yC T) ∧ TC T.1.1 (yG T) (yC T) σ ∧ ∀ t v, yC T t = t → yH T t v → (yG T).1 t = 4 := by
    obtain ⟨hl', hv', h1, h2, h3, _, _, h6, h7, h8⟩ := hCT
    refine ⟨h6, h1, fun t v e k => ?_⟩
    rw [show yH T = _ from h8] at k
    obtain ⟨i, i1, _⟩ := k
    have hne : hl' t ≠ [] := fun q => by rw [q] at i1; cases i1
    by_cases q : t < T.1.1
    · exact h3 t q e hne
    · exact absurd (h7 t (by omega)) hne
  have hbox := fun q i q1 q2 hi => hg.box hF hf hO (q := q) (i := i) q1 q2 hi
  have hBX := BXm.of r5 hJ.1 hbox
  obtain ⟨tg, hITP⟩ := hg.1
  have hIN : INTm D G f T.2.1.2.1 T.2.1.2.2.1 (hC hl hv) τ := by
    rw [← m7]
    refine int_m hITP hJ.1 hJ.2.2.2 gC.1 (fun x hk => gC.2.1 x (by omega)) gC tC.2.2.2.2.2.2.2 ?_ gM.1 hJ.2.1.1 (fun x u k => hKc _ u (gC.1 x) k) r5 hBX
    have := tC.2.2.2.2.2.2.2
    exact (this _).mp (by rw [gC.2.1 0 (by rw [(this 0).mpr rfl]; decide)]; exact (this 0).mpr rfl)
  -- arrows of fns
  have harc : ∀ j, D.bF f ≤ j → j < D.bF (f + 1) → (yG T).1 (yC T (oT σ (pt j))) = 4 := fun j j1 j2 => by
    obtain ⟨p1, p2, p3, p4, p5⟩ := hpt j j1 j2
    exact (((hg.2.1 (pt j) p1 p2).2.2.2.2.2.1 (by' j) p5).2.2.2 p3).1
  have harm : ∀ j, D.bF f ≤ j → j < D.bF (f + 1) → T.2.1.2.1.1 (T.2.1.2.2.1 (oM τ (pt j))) = 4 := fun j j1 j2 => by
    obtain ⟨p1, p2, p3, p4, p5⟩ := hpt j j1 j2
    rw [← hJ.1.2.2.1 _ _ (r5.1 (pt j) p1 p2)]; exact harc j j1 j2
  obtain ⟨g1, g2, g3, g4, g5⟩ := id hGc
  obtain ⟨lx, lx1, lx2⟩ := g5 f hf
  have l139 : rd τ 139 f = i32 (lx : Int) := (hGm.2 f hf).trans lx2
  have hbF : D.bF (f + 1) ≤ D.bF (D.fc + 1) := by
    have hle : ∀ j g, g + j = D.fc + 1 → D.bF g ≤ D.bF (D.fc + 1) := by
      intro j
      induction j with
      | zero => intro g e; rw [show g = D.fc + 1 by omega]; exact Nat.le_refl _
      | succ j ih => intro g e; exact Nat.le_trans (hF.2.2 g (by omega)).1.2.2.1 (ih (g + 1) (by omega))
    exact hle (D.fc - f) (f + 1) (by omega)
  have body : ∀ j, D.bF f ≤ j → j < D.bF (f + 1) → D.st (by' j) = D.st (pt j) ∧ by' j + 1 = pt j := fun j j1 j2 => by
    obtain ⟨p1, p2, p3, p4, p5⟩ := hpt j j1 j2
    have hp := hPf.2.2.1 (pt j) p1 p2
    have hlen := hp.2.2.1 (by omega)
    rw [p3] at hlen
    have hc := hp.2.1
    cases hk : D.kd (pt j) with
    | nil => rw [hk] at p5; cases p5
    | cons x r =>
      rw [hk] at p5 hc hlen
      have hx : x = by' j := Option.some.inj p5
      cases r with
      | nil => rw [hx] at hc; exact ⟨hc.1, hc.2.2.2⟩
      | cons _ _ => cases hlen
  have hby : ∀ j q, D.bF f ≤ j → j < D.bF (f + 1) → spn D (by' j) q → D.bP f ≤ q ∧ q < D.bP (f + 1) := fun j q j1 j2 s => by
    obtain ⟨p1, p2, _⟩ := hpt j j1 j2
    obtain ⟨_, _, _, g4, g5, g6, _⟩ := hR.fn hF hf hpt j1 j2
    have := s.1; have := s.2; omega
  obtain ⟨bl, ebl, hc⟩ := reg_c (L := L) (xs := xs) (Gs := G) (h0 := yH T) (C := yG T) (c := yC T) hF hf hR hK2 r1 r3 hCT hQP hpe0 hB hfst hn lx2 (by omega) hGc hpt harc hHc hSc d v2 v3 v4 v5
  obtain ⟨R, eR, hm⟩ := reg_m (L := L) (xs := xs) (Gs := G) (W2 := fun j => (cp j).map (fun e => T.2.1.2.2.1 (vM τ e.2))) (l := lx) hF hf hR r2 r4 (hGm.1 f hf) (by have := hBD.2.2.1; omega) ⟨m1, m2, m4⟩ m5 ⟨m3, m6⟩ gM (by rw [← m7]; exact fM) hz hIN hBX r6 r7 r8 r9 hl9 hpt harm (fun j j1 j2 => by rw [List.length_map]; exact (g3 j (by omega)).2.1) (fun j q j1 j2 s k1 k2 => by
    obtain ⟨p1, p2, p3, p4, p5⟩ := hpt j j1 j2
    have b := body j j1 j2
    have s1 := s.1
    have s2 := s.2
    have := (g4 (pt j) (by omega) p3 (D.vl q)).mpr ⟨q, by omega, by omega, k1, rfl, k2⟩
    rw [p4] at this
    obtain ⟨e, e1, e2⟩ := List.mem_map.mp this
    exact List.mem_map.mpr ⟨e, e1, by rw [e2]⟩) hHm hSm hSh h5 l139 (by omega) dm u2 u3
  have hjn := num_joint (a := fun e : Nat × Nat => pnC D σ e.1 e.2) (b := fun e : Nat × Nat => pnM D τ e.1 e.2) hJ.1 gM.1 (puL D G f (D.bP (f + 1) - D.bP f)) [] [] (fun e he => by
    have hm := puL_mem _ e he
    exact r5.2.2.2 e.1 e.2 hm.1 (by omega) hm.2.2) ⟨rfl, fun k x y h => (by cases h)⟩ (fun y hy => by cases hy)
  have eRR : nmL T.2.1.2.2.1 ((puL D G f (D.bP (f + 1) - D.bP f)).map (fun e : Nat × Nat => pnM D τ e.1 e.2)) [] = R := by rw [eR]; rfl
  rw [eRR, ← ebl] at hjn
  rcases hc with ⟨q, s, c1, c2, c3⟩ | ⟨q, σ1, pe, hc', Hc', Sc', owc, w3, w4, w5, c1, c2, c3, c4, c5, c6, c7, c8, c9, c10, c11, c12, c13, c14, c15, c16, c17, c18, c19, c20⟩
  · -- too many
    left
    rcases hm with ⟨k, τ1, d1, d2, d3, d4⟩ | ⟨k, _⟩
    · exact ⟨s, τ1, rd σ 13 lx, c1, d1, d2, by rw [d3]; exact (h13 lx lx1).symm, c2⟩
    · rcases hjn with h | h
      · omega
      · have := h.1; omega
  rcases hm with ⟨k, _⟩ | ⟨k, τ1, hl', hv', Hm', Sm', Sh', owm, x3, d1, d2, d3, d4, d5, d6, d7, d8, d9, d10, d11, d12, d13, d14, d15, d16, d16b, d17⟩
  · rcases hjn with h | h
    · omega
    · have := h.1; omega
  right
  have hNM : NMz T.2.2 bl R := by
    rcases hjn with h | h
    · omega
    · exact h
  -- mates of what is held
  obtain ⟨z1, z2, z3, z4⟩ := id hJ.1
  have kbc : ∀ p b, D.bP f ≤ p → p < D.bP (f + 1) → Bsh D f σ p b → ∃ b', Bsm D f τ p b' ∧ T.2.2 b b' := fun p b p1 p2 hb => by
    rcases hb with k | ⟨v, k1, k2⟩ | k
    · exact ⟨_, .inl rfl, by rw [k]; exact r5.1 p p1 p2⟩
    · exact ⟨_, .inr (.inl ⟨v, k1, rfl⟩), by rw [k2]; exact r5.2.1 p v p1 p2 k1⟩
    · exact ⟨_, .inr (.inr rfl), by rw [k]; exact r5.2.2.1⟩
  have kbm : ∀ p b, D.bP f ≤ p → p < D.bP (f + 1) → Bsm D f τ p b → ∃ b', Bsh D f σ p b' ∧ zF T.2.2 b b' := fun p b p1 p2 hb => by
    rcases hb with k | ⟨v, k1, k2⟩ | k
    · exact ⟨_, .inl rfl, by rw [k]; exact r5.1 p p1 p2⟩
    · exact ⟨_, .inr (.inl ⟨v, k1, rfl⟩), by rw [k2]; exact r5.2.1 p v p1 p2 k1⟩
    · exact ⟨_, .inr (.inr rfl), by rw [k]; exact r5.2.2.1⟩
  have hKm : ∀ t v, T.2.1.2.2.1 t = t → hC hl hv t v → T.2.1.2.1.1 t = 4 := fun t v e k => by
    obtain ⟨i, i1, _⟩ := k
    have hne : hl t ≠ [] := fun q => by rw [q] at i1; cases i1
    by_cases q : t < T.2.1.1
    · exact m3 t q e hne
    · exact absurd (m6 t (by omega)) hne
  have zhm : ∀ x y v, zF T.2.2 x y → hC hl hv (T.2.1.2.2.1 x) v → T.2.1.2.1.1 (T.2.1.2.2.1 v) ≠ 1 → ∃ w, yH T (yC T y) w ∧ zF T.2.2 v w := fun x y v hz hu hk => hJ.2.1.2 y x v hz (by rw [m7]; exact hu) hk
  have zhc : ∀ x y u, T.2.2 x y → yH T (yC T x) u → (yG T).1 (yC T u) ≠ 1 → ∃ v, hC hl hv (T.2.1.2.2.1 y) v ∧ T.2.2 u v := fun x y u hz hu hk => by rw [← m7]; exact hJ.2.1.1 x y u hz hu hk
  have LC := LFP.zz (D := D) (f := f) (np := D.np G f) (pn := pnC D σ) (pn' := pnM D τ) (ar := fun j => oT σ (pt j)) (ar' := fun j => oM τ (pt j)) (by' := by') (sf := sfM D f by') (sf' := sfM D f by') (cap := cpC D pt by' σ) (cap' := cpM D pt by' τ) hJ.1 gC.1 gM.1 zhc hKc (fun j j1 j2 => ⟨harc j j1 j2, by
    obtain ⟨p1, p2, _⟩ := hpt j j1 j2
    exact r5.1 (pt j) p1 p2⟩) (fun q i q1 q2 hi => r5.2.2.2 q i q1 q2 hi) kbc hby (fun j _ _ h => h) (fun j v j1 j2 ⟨q, q1, q2, q3, q4⟩ => by
    obtain ⟨p1, p2, _⟩ := hpt j j1 j2
    exact ⟨_, ⟨q, q1, q2, q3, rfl⟩, by rw [q4]; exact r5.2.1 (pt j) _ p1 p2 q3⟩)
  have LM := LFP.zz (D := D) (f := f) (np := D.np G f) (pn := pnM D τ) (pn' := pnC D σ) (ar := fun j => oM τ (pt j)) (ar' := fun j => oT σ (pt j)) (by' := by') (sf := sfM D f by') (sf' := sfM D f by') (cap := cpM D pt by' τ) (cap' := cpC D pt by' σ) hJ.1.flip gM.1 gC.1 zhm hKm (fun j j1 j2 => ⟨harm j j1 j2, by
    obtain ⟨p1, p2, _⟩ := hpt j j1 j2
    exact r5.1 (pt j) p1 p2⟩) (fun q i q1 q2 hi => r5.2.2.2 q i q1 q2 hi) kbm hby (fun j _ _ h => h) (fun j v j1 j2 ⟨q, q1, q2, q3, q4⟩ => by
    obtain ⟨p1, p2, _⟩ := hpt j j1 j2
    exact ⟨_, ⟨q, q1, q2, q3, rfl⟩, by rw [q4]; exact r5.2.1 (pt j) _ p1 p2 q3⟩)
  have nc : ∀ x u, hc' (yC T x) u → LFc D G f (yG T) (yC T) (yH T) pt by' σ (yC T x) (yC T u) := fun x u k => (c8 (yC T x) (yC T u) (gC.1 x)).mpr ⟨u, k, rfl⟩
  have nm : ∀ x u, hC hl' hv' (T.2.1.2.2.1 x) u → LFm D G f T.2.1.2.1 T.2.1.2.2.1 (hC hl hv) pt by' τ (T.2.1.2.2.1 x) (T.2.1.2.2.1 u) := fun x u k => (d12 (T.2.1.2.2.1 x) (T.2.1.2.2.1 u) (gM.1 x)).mpr ⟨u, k, rfl⟩
  have zH' : zH (yG T) (yC T) hc' T.2.1.2.1 T.2.1.2.2.1 (hC hl' hv') T.2.2 := by
    refine ⟨fun x y u hz hu hk => ?_, fun x y v hz hu hk => ?_⟩
    · have := (LC _ _ (nc x u hu)).2 (by show (yG T).1 (yC T (yC T u)) ≠ 1; rw [gC.1]; exact hk) y (z2 x y _ y hz (gC.1 x) rfl)
      obtain ⟨v', a1, a2⟩ := this
      obtain ⟨v2, b1, b2⟩ := (d12 _ _ (gM.1 y)).mp a2
      exact ⟨v2, b1, z2 _ _ u v2 a1 (gC.1 u).symm b2⟩
    · have := (LM _ _ (nm y v hu)).2 (by rw [gM.1]; exact hk) x (z2 x y x _ hz rfl (gM.1 y))
      obtain ⟨v', a1, a2⟩ := this
      obtain ⟨v2, b1, b2⟩ := (c8 _ _ (gC.1 x)).mp a2
      exact ⟨v2, b1, z2 v' _ v2 v a1 b2 (gM.1 v).symm⟩
  have hKc' : ∀ x u, hc' (yC T x) u → (yG T).1 (yC T x) ≠ 1 := fun x u k => by rw [(LC _ _ (nc x u k)).1]; decide
  have hKm' : ∀ x u, hC hl' hv' (T.2.1.2.2.1 x) u → T.2.1.2.1.1 (T.2.1.2.2.1 x) ≠ 1 := fun x u k => by rw [(LM _ _ (nm x u k)).1]; decide
  -- reached on both sides
  have rq : ∀ p e1 e2, D.bP f ≤ p → p < D.bP (f + 1) → D.bP f ≤ e1 → e1 < D.bP (f + 1) → e2 < D.np G f e1 → (rBx D f (yG T) (yC T) hc' σ p (pnC D σ e1 e2) ↔ RQ T.2.1.2.1 T.2.1.2.2.1 (hC hl' hv') (Bsm D f τ p) (pnM D τ e1 e2) ∧ 2 ≤ T.2.1.2.1.1 (T.2.1.2.2.1 (pnM D τ e1 e2))) := fun p e1 e2 p1 p2 q1 q2 q3 => by
    have ze := r5.2.2.2 e1 e2 q1 q2 q3
    have hk := hbox e1 e2 q1 q2 q3
    have hk2 := hBX e1 e2 q1 q2 q3
    constructor
    · rintro ⟨k1, _⟩
      refine ⟨?_, hk2⟩
      rcases RQ.zz hJ.1 gC.1 zH'.1 hKc' (fun b hb => kbc p b p1 p2 hb) k1 with h | ⟨y, h1, h2⟩
      · have h : (yG T).1 (yC T (pnC D σ e1 e2)) = 1 := h
        omega
      · exact h2.cl ((z1 _ _ _ _ h1 ze).mp rfl)
    · rintro ⟨k1, _⟩
      refine ⟨?_, hk⟩
      rcases RQ.zz hJ.1.flip gM.1 (fun x y u hz hu hk => zH'.2 y x u hz hu hk) hKm' (fun b hb => kbm p b p1 p2 hb) k1 with h | ⟨y, h1, h2⟩
      · omega
      · exact h2.cl ((z1 _ _ _ _ h1 ze).mpr rfl)
  refine ⟨σ1, τ1, ((T.1.1, T.1.2.1, T.1.2.2.1, hc', Hc', Sc'), (T.2.1.1, T.2.1.2.1, T.2.1.2.2.1, hC hl' hv', Hm', Sm', Sh'), T.2.2), bl, R, owm, pe, w3, w4, w5, x3, c1, d1, ⟨⟨rfl, rfl, rfl⟩, ⟨rfl, rfl, rfl⟩, rfl, ⟨c2, ⟨hl', hv', ⟨d2.1, d2.2.1, d4.1, d2.2.2, d3⟩, gM, d4.2, rfl⟩, hJ.1, zH', hJ.2.2.1, hJ.2.2.2⟩, c7, by rw [m7]; exact d11, ⟨q, hNM.1, hNM, c13, d13, d14⟩, ⟨c9, c10, c12⟩, c14, fun k hk => ?_, fun i k e he hnu => ?_, c16, c17, c18, ⟨c19, c20⟩, d16b, ⟨bS f, (hGm.1 f hf).1.1, d15.2⟩, ⟨ebl, eR, c11, pt, by', hpt, harc, c8, harm, by rw [m7]; exact d12⟩, d17⟩, c4, c6, d6, d8, d10⟩
  · refine ⟨d15.1 k hk, ?_⟩
    obtain ⟨x, hx⟩ : ∃ x, R[k]? = some x := ⟨R[k]'hk, List.getElem?_eq_getElem hk⟩
    have hx2 := List.mem_of_getElem? hx
    rw [eR] at hx2
    rcases (nmL_mem _ _).mp hx2 with h | ⟨y, h1, h2⟩
    · cases h
    · obtain ⟨e, he, e2⟩ := List.mem_map.mp h1
      have hm := puL_mem _ e he
      exact (d16 e.1 e.2 k hm.1 (by omega) hm.2.2 (by rw [e2, h2]; exact hx)).2
  · obtain ⟨n1, n2, n3, n4⟩ := hnu
    obtain ⟨o1, o2⟩ := c15 i e he
    have o3 := (d16 e.1 e.2 k n1 n2 n3 n4).1.congr (fun p p1 p2 => (rq p e.1 e.2 p1 p2 n1 n2 n3).symm)
    have := o2.uniq o3
    rw [this] at o1
    exact ⟨o1, o3⟩
end REGJ
