/-! TYPING, THE COMPONENT: the start of a function, up to its calls -/
section START42
variable {L : Nat} {xs : Nat → Int32} {σ σ' τ τ' : tvS}
variable {K1 K2 Bc Bm f : Nat} {Rc Rm : Nat → Nat → Prop} {pd : List (Nat × List Nat × (Nat → Nat))} {n a rc : Nat} {T T1 T2 : tyJ} {D : pgD} {m : Nat}
theorem unkC.trans {N k j : Nat} (h : unkC N k T T1) (hN : T.1.1 = N) (h' : unkC (N + k) j T1 T2) : unkC N (k + j) T T2 := by
  obtain ⟨a1, a2, a3, a4, a5, a6⟩ := h
  obtain ⟨b1, b2, b3, b4, b5, b6⟩ := h'
  refine ⟨b1.trans a1, by rw [b2]; omega, b3.trans a3, fun x hx => (b4 x (by omega)).trans (a4 x hx), fun i hi => ?_, fun x hx => ⟨(b6 x (by omega)).1.trans (a6 x hx).1, (b6 x (by omega)).2.trans (a6 x hx).2⟩⟩
  by_cases e : i < k
  · obtain ⟨⟨c1, c2, c3, c4, c5⟩, c6⟩ := a5 i e
    exact ⟨⟨by rw [b2]; omega, by rw [b3]; exact c2, by rw [b3]; exact c3, by rw [b4 _ (by omega)]; exact c4, by rw [b3]; exact c5⟩, fun y => by rw [b1]; exact c6 y⟩
  · have := b5 (i - k) (by omega)
    rw [show N + k + (i - k) = N + i by omega] at this
    exact this
theorem unkC.zero : unkC T.1.1 0 T T := ⟨rfl, rfl, rfl, fun _ _ => rfl, fun i hi => absurd hi (Nat.not_lt_zero _), fun _ _ => ⟨rfl, rfl⟩⟩
/-- its result -/
theorem st_result {u b0 : Nat} (hf : f < 21) (hT : TJ K1 K2 Bc Bm f Rc Rm pd n (u + 1) a rc T σ τ) (h48 : rd σ 48 f = i32 (b0 : Int)) (d : Nat) (P0 : Int32) (v3 v4 : Value) :
    ∃ σ' T' w4, rn L xs (d + 4) 142 54 [.ref 65, .int (i32 (f : Int)), .int P0, v3, v4] [] σ = rn L xs (d + 4) 142 77 [.ref 65, .int (i32 (f : Int)), .int P0, .int (i32 (b0 : Int)), w4] [] σ' ∧ TJ K1 K2 Bc Bm f Rc Rm pd n u a rc T' σ' τ ∧ exT Bc Bm T T' ∧ unkC T.1.1 1 T T' ∧ rd σ' 68 f = i32 (T.1.1 : Int) ∧ (∀ g, g ≠ f → rd σ' 68 g = rd σ 68 g) ∧ frT (68 :: gro8) gro8 [8] σ σ' := by
  obtain ⟨s1, T1, a1, a2, a3, a4, a5, a6, a7, a8, a9, a10, a11, a12⟩ := TJ.addC (L := L) (xs := xs) (u := u) hT d
  refine ⟨wr s1 68 f (i32 (T.1.1 : Int)), T1, dj v4, ?_, a2.oC (.inr (.inr rfl)), a3, ⟨a4, a5, a6, a7, fun i hi => ?_, a12⟩, wr_self _ _ _ _, fun g hg => by rw [wr_nei hg, a11.rd (j := 68) rfl], (a11.sub rfl rfl rfl).trans (frT_wr rfl (by decide))⟩
  · rw [e142_54 (d + 3), bI_ok a1, c_in (by omega) (by omega) (by omega), c_in (by omega) (by omega) (by omega), i32_ixn (by omega), a11.rd (j := 48) rfl, h48]
  · rw [show i = 0 by omega]; exact ⟨a8, a9⟩
/-- what its fns are given -/
theorem st_givens {V : Nat} {gv : Nat → Nat} (hf : f < 21) {b1 : Nat} (hb : b1 ≤ 4101) (hgv : ∀ h, h < b1 → gv h < V) (hV : V ≤ 4101) (d : Nat) (P0 : Int32) : ∀ (j h u : Nat) (σ : tvS) (T : tyJ) (v4 : Value), h + j = b1 → (∀ p q, h ≤ p → p < b1 → h ≤ q → q < b1 → gv p = gv q → p = q) → TJ K1 K2 Bc Bm f Rc Rm pd n (u + j) a rc T σ τ → rd σ 49 f = i32 (b1 : Int) → (∀ p, h ≤ p → p < b1 → rd σ 36 p = i32 (gv p : Int)) →
    ∃ σ' T' w3 w4, rn L xs (d + 4) 142 77 [.ref 65, .int (i32 (f : Int)), .int P0, .int (i32 (h : Int)), v4] [] σ = rn L xs (d + 4) 142 117 [.ref 65, .int (i32 (f : Int)), .int P0, w3, w4] [] σ' ∧ TJ K1 K2 Bc Bm f Rc Rm pd n u a rc T' σ' τ ∧ exT Bc Bm T T' ∧ unkC T.1.1 j T T' ∧ (∀ i, i < j → rd σ' 67 (gv (h + i)) = i32 ((T.1.1 + i : Nat) : Int)) ∧ (∀ v, (∀ p, h ≤ p → p < b1 → v ≠ gv p) → rd σ' 67 v = rd σ 67 v) ∧ frT (67 :: gro8) gro8 [8] σ σ' := by
  intro j
  induction j with
  | zero =>
    intro h u σ T v4 e hi hT h1 h2
    have e : h = b1 := by omega
    subst e
    refine ⟨σ, T, .int (i32 (h : Int)), v4, ?_, hT, exT.refl, unkC.zero, fun i hi => absurd hi (Nat.not_lt_zero _), fun _ _ => rfl, frT.refl⟩
    rw [e142_77 (d + 3), c_in (by omega) (by omega) (by omega), i32_ixn (by omega), h1, c2_ge (by omega) (by omega) (by omega) (by omega), c_t (by omega)]
  | succ j ih =>
    intro h u σ T v4 e hi hT h1 h2
    obtain ⟨s1, T1, a1, a2, a3, a4, a5, a6, a7, a8, a9, a10, a11, a12⟩ := TJ.addC (L := L) (xs := xs) (u := u + j) hT d
    have hT2 := a2.oC (k := 67) (i := gv h) (x := i32 (T.1.1 : Int)) (.inr (.inl rfl))
    have w2 : frT (67 :: gro8) gro8 [8] σ (wr s1 67 (gv h) (i32 (T.1.1 : Int))) := (a11.sub rfl rfl rfl).trans (frT_wr rfl (by decide))
    have hgh := hgv h (by omega)
    obtain ⟨σ', T', w3, w4, b1', b2, b3, b4, b5, b6, b7⟩ := ih (h + 1) u (wr s1 67 (gv h) (i32 (T.1.1 : Int))) T1 (dj v4) (by omega) (fun p q g1 g2 g3 g4 => hi p q (by omega) g2 (by omega) g4) hT2 (by rw [w2.rd (j := 49) rfl]; exact h1) (fun p g1 g2 => by rw [w2.rd (j := 36) rfl]; exact h2 p (by omega) g2)
    have u1 : unkC T.1.1 1 T T1 := ⟨a4, a5, a6, a7, fun i hi => by rw [show i = 0 by omega]; exact ⟨a8, a9⟩, a12⟩
    refine ⟨σ', T', w3, w4, ?_, b2, a3.trans b3, ?_, fun i hi' => ?_, fun v hv => ?_, w2.trans b7⟩
    · rw [e142_77 (d + 3), c_in (by omega) (by omega) (by omega), i32_ixn (by omega), h1, c2_ge (by omega) (by omega) (by omega) (by omega), c_f (by omega), c_in (by omega) (by omega) (by omega), bI_ok a1, i32_ixn (by omega), h2 h (Nat.le_refl _) (by omega), c_in (by omega) (by omega) (by omega), i32_ixn (by omega), i32_up]
      exact b1'
    · rw [a5] at b4
      have := u1.trans rfl b4
      rw [show j + 1 = 1 + j by omega]; exact this
    · by_cases q : i = 0
      · subst q
        rw [show h + 0 = h from rfl, b6 (gv h) (fun p g1 g2 g3 => by have := hi h p (Nat.le_refl _) (by omega) (by omega) g2 g3; omega), wr_self]; rfl
      · have := b5 (i - 1) (by omega)
        rw [a5, show h + 1 + (i - 1) = h + i from by omega, show T.1.1 + 1 + (i - 1) = T.1.1 + i from by omega] at this
        exact this
    · rw [b6 v (fun p g1 g2 => hv p (by omega) g2), wr_nei (hv h (Nat.le_refl _) (by omega)), a11.rd (j := 67) rfl]
/-- all of it -/
theorem st_comp {u : Nat} (hF : PGF D m) (hf : f ≤ D.fc) (hR : PGR D σ τ) (hT : TJ K1 K2 Bc Bm f Rc Rm pd n (u + (D.bk f + 1 + (D.bF (f + 1) - D.bF f))) a rc T σ τ) (d : Nat) (v2 v3 v4 : Value) :
    ∃ σ' T' w4, rn L xs (d + 4) 142 0 [.ref 65, .int (i32 (f : Int)), v2, v3, v4] [] σ = rn L xs (d + 4) 142 119 [.ref 65, .int (i32 (f : Int)), .int (i32 (D.bP f : Int)), .int (i32 (D.bP f : Int)), w4] [] σ' ∧ TJ K1 K2 Bc Bm f Rc Rm pd n u a rc T' σ' τ ∧ exT Bc Bm T T' ∧ unkC T.1.1 (D.bk f + 1 + (D.bF (f + 1) - D.bF f)) T T' ∧
      (∀ i, i < D.bk f → rd σ' 67 (D.tV f + i) = i32 ((T.1.1 + i : Nat) : Int)) ∧ rd σ' 68 f = i32 ((T.1.1 + D.bk f : Nat) : Int) ∧ (∀ h, D.bF f ≤ h → h < D.bF (f + 1) → rd σ' 67 (D.gv h) = i32 ((T.1.1 + D.bk f + 1 + (h - D.bF f) : Nat) : Int)) ∧ (∀ v, v < D.tV f → rd σ' 67 v = rd σ 67 v) ∧ (∀ g, g ≠ f → rd σ' 68 g = rd σ 68 g) ∧ frT (67 :: 68 :: gro8) gro8 [8] σ σ' := by
  have hb4 := hF.1
  have hbl := (hF.le (D.fc + 1 - (f + 1)) (f + 1) (by omega))
  have hPf := hF.2.2 f hf
  have hfr := hR.1 f hf
  have hgvb : ∀ h, D.bF f ≤ h → h < D.bF (f + 1) → ∃ p, D.bP f ≤ p ∧ p < D.bP (f + 1) ∧ D.K p = 17 ∧ D.vl p = h ∧ D.tV f + D.bk f ≤ D.gv h ∧ D.gv h < D.tV (f + 1) ∧ D.bd p = [D.gv h] := fun h h1 h2 => by
    obtain ⟨p, p1, p2, p3, p4⟩ := hPf.2.2.2.2.1 h h1 h2
    have hbd : D.bd p = [D.gv h] := by unfold pgD.bd; rw [if_pos p3, p4]
    have := (hPf.2.2.1 p p1 p2).2.2.2.2.2.2.2 (D.gv h) (by rw [hbd]; exact List.mem_cons_self)
    exact ⟨p, p1, p2, p3, p4, this.1, this.2, hbd⟩
  have hinj : ∀ p q, D.bF f ≤ p → p < D.bF (f + 1) → D.bF f ≤ q → q < D.bF (f + 1) → D.gv p = D.gv q → p = q := fun p q h1 h2 h3 h4 e => by
    obtain ⟨p', p1, p2, p3, p4, _, _, p5⟩ := hgvb p h1 h2
    obtain ⟨q', q1, q2, q3, q4, _, _, q5⟩ := hgvb q h3 h4
    have := hPf.2.2.2.2.2.2 p' q' (D.gv p) p1 p2 q1 q2 (by rw [p5]; exact List.mem_cons_self) (by rw [q5, e]; exact List.mem_cons_self)
    rw [← p4, ← q4, this]
  obtain ⟨s1, T1, w3, w4, a1, a2, a3, a4, a5, a6, a7⟩ := st_params (L := L) (xs := xs) (V := D.tV f) (kk := D.bk f) (τ := τ) (by omega) (by have := hPf.1.2.1; omega) hPf.1.2.2.2 d (i32 (D.bP f : Int)) (D.bk f) 0 (u + (1 + (D.bF (f + 1) - D.bF f))) σ T v4 (by omega) (by rw [show u + (1 + (D.bF (f + 1) - D.bF f)) + D.bk f = u + (D.bk f + 1 + (D.bF (f + 1) - D.bF f)) by omega]; exact hT) hfr.1.1 hfr.1.2.1
  obtain ⟨s2, T2, w5, b1, b2, b3, b4, b5, b6, b7⟩ := st_result (L := L) (xs := xs) (u := u + (D.bF (f + 1) - D.bF f)) (by omega) (show TJ K1 K2 Bc Bm f Rc Rm pd n (u + (D.bF (f + 1) - D.bF f) + 1) a rc T1 s1 τ by rw [show u + (D.bF (f + 1) - D.bF f) + 1 = u + (1 + (D.bF (f + 1) - D.bF f)) by omega]; exact a2) (by rw [a7.rd (j := 48) rfl]; exact hfr.1.2.2.2.2.1) d (i32 (D.bP f : Int)) w3 w4
  obtain ⟨s3, T3, w6, w7, c1, c2, c3, c4, c5, c6, c7⟩ := st_givens (L := L) (xs := xs) (V := 4101) (gv := fun h => if D.bF f ≤ h ∧ h < D.bF (f + 1) then D.gv h else 0) (by omega) (b1 := D.bF (f + 1)) (by omega) (fun h hh => by
      by_cases q : D.bF f ≤ h ∧ h < D.bF (f + 1)
      · rw [if_pos q]
        obtain ⟨_, _, _, _, _, _, q2, _⟩ := hgvb h q.1 q.2
        omega
      · rw [if_neg q]; omega) (Nat.le_refl _) d (i32 (D.bP f : Int)) (D.bF (f + 1) - D.bF f) (D.bF f) u s2 T2 w5 (by have := hPf.1.2.2.1; omega) (fun p q h1 h2 h3 h4 e => by rw [if_pos ⟨h1, h2⟩, if_pos ⟨h3, h4⟩] at e; exact hinj p q h1 h2 h3 h4 e) b2 (by rw [b7.rd (j := 49) rfl, a7.rd (j := 49) rfl]; exact hfr.1.2.2.2.2.2) (fun p h1 h2 => by
      rw [if_pos ⟨h1, h2⟩, b7.rd (j := 36) rfl, a7.rd (j := 36) rfl]
      obtain ⟨p', p1, p2, p3, p4, _⟩ := hgvb p h1 h2
      have := ((hR.2 p' (by omega)).2.2.2.2.2.1 p3).2.1
      rw [p4] at this; exact this)
  have e1 : T1.1.1 = T.1.1 + D.bk f := a4.2.1
  have e2 : T2.1.1 = T.1.1 + D.bk f + 1 := by rw [b4.2.1, e1]
  refine ⟨s3, T3, w7, ?_, c2, a3.trans (b3.trans c3), ?_, fun i hi => ?_, ?_, fun h h1 h2 => ?_, fun v hv => ?_, fun g hg => ?_, (a7.sub rfl rfl rfl).trans ((b7.sub rfl rfl rfl).trans (c7.sub rfl rfl rfl))⟩
  · rw [e142_0 (d + 3), c_in (by omega) (by omega) (by omega), i32_ixn (by omega), hfr.1.2.2.1]
    have a1 : rn L xs (d + 4) 142 12 [.ref 65, .int (i32 (f : Int)), .int (i32 (D.bP f : Int)), .int 0, v4] [] σ = _ := a1
    rw [a1, b1, c1, e142_117]
  · rw [e1] at b4
    rw [e2] at c4
    exact (a4.trans rfl b4).trans rfl c4
  · rw [c6 _ (fun p h1 h2 e => by
      rw [if_pos ⟨h1, h2⟩] at e
      obtain ⟨_, _, _, _, _, q1, _⟩ := hgvb p h1 h2
      omega), b7.rd (j := 67) rfl]
    have := a5 i hi
    rw [show D.tV f + 0 + i = D.tV f + i by omega] at this
    exact this
  · rw [c7.rd (j := 68) rfl, b5, e1]
  · have := c5 (h - D.bF f) (by omega)
    rw [show D.bF f + (h - D.bF f) = h by omega, if_pos ⟨h1, h2⟩, e2] at this
    exact this
  · rw [c6 _ (fun p h1 h2 e => by
      rw [if_pos ⟨h1, h2⟩] at e
      obtain ⟨_, _, _, _, _, q1, _⟩ := hgvb p h1 h2
      omega), b7.rd (j := 67) rfl, a6 v (by omega)]
  · rw [c7.rd (j := 68) rfl, b6 g hg, a7.rd (j := 68) rfl]
end START42
