/-! TYPING, THE MODEL: the start of a function -/
section START42B
variable {L : Nat} {xs : Nat → Int32} {σ σ' τ τ' : tvS}
variable {K1 K2 Bc Bm f : Nat} {Rc Rm : Nat → Nat → Prop} {pd : List (Nat × List Nat × (Nat → Nat))} {n a rc : Nat} {T T1 T2 : tyJ} {D : pgD} {m : Nat}
/-- so many unknowns are made, from N on -/
def unkM (N k : Nat) (T T' : tyJ) : Prop := T'.1 = T.1 ∧ T'.2.2 = T.2.2 ∧ T'.2.1.1 = N + k ∧ T'.2.1.2.2 = T.2.1.2.2 ∧ (∀ x, x < T.2.1.1 → T'.2.1.2.1.1 x = T.2.1.2.1.1 x) ∧ (∀ i, i < k → lone T'.2.1.1 T'.2.1.2.1 T'.2.1.2.2.1 T'.2.1.2.2.2.1 (N + i) ∧ ∀ y, ¬ T'.2.2 y (N + i))
theorem unkM.zero : unkM T.2.1.1 0 T T := ⟨rfl, rfl, rfl, rfl, fun _ _ => rfl, fun i hi => absurd hi (Nat.not_lt_zero _)⟩
theorem unkM.trans {N k j : Nat} (h : unkM N k T T1) (hN : T.2.1.1 = N) (h' : unkM (N + k) j T1 T2) : unkM N (k + j) T T2 := by
  obtain ⟨a0, a1, a2, a3, a4, a5⟩ := h
  obtain ⟨b0, b1, b2, b3, b4, b5⟩ := h'
  refine ⟨b0.trans a0, b1.trans a1, by rw [b2]; omega, b3.trans a3, fun x hx => (b4 x (by omega)).trans (a4 x hx), fun i hi => ?_⟩
  by_cases e : i < k
  · obtain ⟨⟨c1, c2, c3, c4, c5⟩, c6⟩ := a5 i e
    exact ⟨⟨by rw [b2]; omega, by rw [b3]; exact c2, by rw [b3]; exact c3, by rw [b4 _ (by omega)]; exact c4, by rw [b3]; exact c5⟩, fun y => by rw [b1]; exact c6 y⟩
  · have := b5 (i - k) (by omega)
    rw [show N + k + (i - k) = N + i by omega] at this
    exact this
theorem MY.o181 {N : Nat} {M : tG} {m : Nat → Nat} {h : Nat → Nat → Prop} {H Sm Sh : Nat} {i : Nat} {x : Int32} (hT : MY N M m h H Sm Sh τ) : MY N M m h H Sm Sh (wr τ 181 i x) := by
  obtain ⟨hl', hv, ⟨h1, h2, h3, h4, h5⟩, h6, h7, h8⟩ := hT
  have w : frM [181] [] τ (wr τ 181 i x) := frM_wr rfl (by omega)
  exact ⟨hl', hv, ⟨h1.fr w rfl ⟨rfl, rfl, rfl, rfl⟩, h2.fr w rfl ⟨rfl, rfl, rfl⟩, h3, h4.fr w rfl ⟨rfl, rfl⟩, h5.fr w rfl rfl⟩, h6, h7, h8⟩
/-- its variables -/
theorem st_vars (hf : f ≤ 20) {b1 : Nat} (hb : b1 ≤ 3000) (d : Nat) : ∀ (j v u : Nat) (τ : tvS) (T : tyJ), v + j = b1 → TJ K1 K2 Bc Bm f Rc Rm pd n (u + j) a rc T σ τ → rd τ 144 (f + 1) = i32 (b1 : Int) →
    ∃ τ' T' w2, rn L xs (d + 3) 332 7 [.ref 123, .int (i32 (f : Int)), .int (i32 (v : Int))] [] τ = rn L xs (d + 3) 332 35 [.ref 123, .int (i32 (f : Int)), w2] [] τ' ∧ TJ K1 K2 Bc Bm f Rc Rm pd n u a rc T' σ τ' ∧ exT Bc Bm T T' ∧ unkM T.2.1.1 j T T' ∧ (∀ i, i < j → rd τ' 179 (v + i) = i32 ((T.2.1.1 + i : Nat) : Int)) ∧ (∀ x, x < v → rd τ' 179 x = rd τ 179 x) ∧ frM (179 :: gro9) [63] τ τ' := by
  intro j
  induction j with
  | zero =>
    intro v u τ T e hT h1
    have e : v = b1 := by omega
    subst e
    refine ⟨τ, T, .int (i32 (v : Int)), ?_, hT, exT.refl, unkM.zero, fun i hi => absurd hi (Nat.not_lt_zero _), fun _ _ => rfl, frM.refl⟩
    rw [e332_7 (d + 2), i32_up, c_in (by omega) (by omega) (by omega), i32_ixn (by omega), h1, c2_ge (by omega) (by omega) (by omega) (by omega), c_t (by omega)]
  | succ j ih =>
    intro v u τ T e hT h1
    obtain ⟨t1, T1, a1, a2, a3, a4, a5, a6, a7, a8, a9, a10, a11, a12⟩ := TJ.addM (L := L) (xs := xs) (u := u + j) hT d
    have hT2 := a2.oM (k := 179) (i := v) (x := i32 (T.2.1.1 : Int)) (.inr (.inl rfl))
    have w2 : frM (179 :: gro9) [63] τ (wr t1 179 v (i32 (T.2.1.1 : Int))) := (a12.sub rfl rfl).trans (frM_wr rfl (by decide))
    obtain ⟨τ', T', w3, b1', b2, b3, b4, b5, b6, b7⟩ := ih (v + 1) u (wr t1 179 v (i32 (T.2.1.1 : Int))) T1 (by omega) hT2 (by rw [w2.rd (j := 144) rfl]; exact h1)
    have u1 : unkM T.2.1.1 1 T T1 := ⟨a4, a5, a6, a7, a8, fun i hi => by rw [show i = 0 by omega]; exact ⟨a9, a10⟩⟩
    refine ⟨τ', T', w3, ?_, b2, a3.trans b3, ?_, fun i hi' => ?_, fun x hx => ?_, w2.trans b7⟩
    · rw [e332_7 (d + 2), i32_up, c_in (by omega) (by omega) (by omega), i32_ixn (by omega), h1, c2_ge (by omega) (by omega) (by omega) (by omega), c_f (by omega), bI_ok a1, c_in (by omega) (by omega) (by omega), i32_ixn (by omega), i32_up]
      exact b1'
    · rw [a6] at b4
      have := u1.trans rfl b4
      rw [show j + 1 = 1 + j by omega]; exact this
    · by_cases q : i = 0
      · subst q
        rw [show v + 0 = v from rfl, b6 v (by omega), wr_self]; rfl
      · have := b5 (i - 1) (by omega)
        rw [a6, show v + 1 + (i - 1) = v + i from by omega, show T.2.1.1 + 1 + (i - 1) = T.2.1.1 + i from by omega] at this
        exact this
    · rw [b6 x (by omega), wr_nei (by omega), a12.rd (j := 179) rfl]
/-- no copies, no types of parts yet -/
theorem st_clear (hf : f ≤ 20) {b1 : Nat} (hb : b1 ≤ 4001) {u : Nat} (d : Nat) : ∀ (j p : Nat) (τ : tvS), p + j = b1 → TJ K1 K2 Bc Bm f Rc Rm pd n u a rc T σ τ → rd τ 143 (f + 1) = i32 (b1 : Int) → rd τ 123 5 = 0 →
    ∃ τ' w2, rn L xs (d + 3) 332 52 [.ref 123, .int (i32 (f : Int)), .int (i32 (p : Int))] [] τ = rn L xs (d + 3) 332 91 [.ref 123, .int (i32 (f : Int)), w2] [] τ' ∧ TJ K1 K2 Bc Bm f Rc Rm pd n u a rc T σ τ' ∧ (∀ q, p ≤ q → q < b1 → rd τ' 181 q = i32 (-1)) ∧ (∀ q, q < p → rd τ' 181 q = rd τ 181 q ∧ rd τ' 178 q = rd τ 178 q) ∧ frM [178, 181] [] τ τ' := by
  intro j
  induction j with
  | zero =>
    intro p τ e hT h1 h5
    have e : p = b1 := by omega
    subst e
    refine ⟨τ, .int (i32 (p : Int)), ?_, hT, fun q h1 h2 => by omega, fun _ _ => ⟨rfl, rfl⟩, frM.refl⟩
    rw [e332_52 (d + 2), i32_up, c_in (by omega) (by omega) (by omega), i32_ixn (by omega), h1, c2_ge (by omega) (by omega) (by omega) (by omega), c_t (by omega)]
  | succ j ih =>
    intro p τ e hT h1 h5
    have hT2 : TJ K1 K2 Bc Bm f Rc Rm pd n u a rc T σ (wr (wr τ 181 p (i32 (-1))) 178 p (i32 (-1))) := TJ.oM (τ := wr τ 181 p (i32 (-1))) ⟨⟨hT.1.1, hT.1.2.1.o181, hT.1.2.2⟩, hT.2⟩ (.inl rfl)
    have w2 : frM [178, 181] [] τ (wr (wr τ 181 p (i32 (-1))) 178 p (i32 (-1))) := (frM_wr rfl (by decide)).trans (frM_wr rfl (by decide))
    obtain ⟨τ', w3, b1', b2, b3, b4, b5⟩ := ih (p + 1) _ (by omega) hT2 (by rw [w2.rd (j := 143) rfl]; exact h1) ((w2.2 5 rfl).trans h5)
    refine ⟨τ', w3, ?_, b2, fun q h1 h2 => ?_, fun q hq => ?_, w2.trans b5⟩
    · rw [e332_52 (d + 2), i32_up, c_in (by omega) (by omega) (by omega), i32_ixn (by omega), h1, c2_ge (by omega) (by omega) (by omega) (by omega), c_f (by omega), h5, show pv_c1 .ne (0 : Int32) = false from rfl, cond_false, c_in (by omega) (by omega) (by omega), i32_ixn (by omega), c_in (by omega) (by omega) (by omega), i32_raw, i32_up]
      exact b1'
    · by_cases q' : q = p
      · rw [q', (b4 p (by omega)).1, wr_nek (by omega), wr_self]
      · exact b3 q (by omega) h2
    · rw [(b4 q (by omega)).1, (b4 q (by omega)).2, wr_nek (by omega), wr_nei (by omega), wr_nei (by omega), wr_nek (by omega)]; exact ⟨rfl, rfl⟩
/-- all of it -/
theorem st_mod {u : Nat} (hF : PGF D m) (hf : f ≤ D.fc) (hR : PGR D σ τ) (h5 : rd τ 123 5 = 0) (hT : TJ K1 K2 Bc Bm f Rc Rm pd n (u + (D.tV (f + 1) - D.tV f + 1)) a rc T σ τ) (d : Nat) (v2 : Value) :
    ∃ τ' T', rn L xs (d + 3) 332 0 [.ref 123, .int (i32 (f : Int)), v2] [] τ = rn L xs (d + 3) 332 98 [.ref 123, .int (i32 (f : Int)), .int (i32 (D.bP f : Int))] [] τ' ∧ TJ K1 K2 Bc Bm f Rc Rm pd n u a rc T' σ τ' ∧ exT Bc Bm T T' ∧ unkM T.2.1.1 (D.tV (f + 1) - D.tV f + 1) T T' ∧
      (∀ v, D.tV f ≤ v → v < D.tV (f + 1) → rd τ' 179 v = i32 ((T.2.1.1 + (v - D.tV f) : Nat) : Int)) ∧ rd τ' 180 f = i32 ((T.2.1.1 + (D.tV (f + 1) - D.tV f) : Nat) : Int) ∧ (∀ p, D.bP f ≤ p → p < D.bP (f + 1) → rd τ' 181 p = i32 (-1)) ∧ (∀ v, v < D.tV f → rd τ' 179 v = rd τ 179 v) ∧ (∀ g, g ≠ f → rd τ' 180 g = rd τ 180 g) ∧ frM (178 :: 179 :: 180 :: 181 :: gro9) [63] τ τ' ∧ ORm D f τ τ' := by
  have hb4 := hF.1
  have hbl := (hF.le (D.fc + 1 - (f + 1)) (f + 1) (by omega))
  have hPf := hF.2.2 f hf
  have hfr := hR.1 f hf
  obtain ⟨t1, T1, w1, a1, a2, a3, a4, a5, a6, a7⟩ := st_vars (L := L) (xs := xs) (σ := σ) (f := f) (by omega) (b1 := D.tV (f + 1)) (by omega) d (D.tV (f + 1) - D.tV f) (D.tV f) (u + 1) τ T (by have := hPf.1.2.1; omega) (by rw [show u + 1 + (D.tV (f + 1) - D.tV f) = u + (D.tV (f + 1) - D.tV f + 1) by omega]; exact hT) hfr.2.1.2.2.2.2.2.2
  obtain ⟨t2, T2, b1, b2, b3, b4, b5, b6, b7, b8, b9, b10, b11, b12⟩ := TJ.addM (L := L) (xs := xs) (u := u) a2 d
  have e1 : T1.2.1.1 = T.2.1.1 + (D.tV (f + 1) - D.tV f) := a4.2.2.1
  have w2 : frM (178 :: 179 :: 180 :: 181 :: gro9) [63] τ (wr t2 180 f (i32 (T1.2.1.1 : Int))) := (a7.sub rfl rfl).trans ((b12.sub rfl rfl).trans (frM_wr rfl (by decide)))
  obtain ⟨t3, w3, c1, c2, c3, c4, c5⟩ := st_clear (L := L) (xs := xs) (f := f) (by omega) (b1 := D.bP (f + 1)) (by omega) d (D.bP (f + 1) - D.bP f) (D.bP f) (wr t2 180 f (i32 (T1.2.1.1 : Int))) (by have := hPf.1.1; omega) (b2.oM (.inr (.inr rfl))) (by rw [w2.rd (j := 143) rfl]; exact hfr.2.1.2.2.2.2.1) ((w2.2 5 rfl).trans h5)
  have u1 : unkM T1.2.1.1 1 T1 T2 := ⟨b4, b5, b6, b7, b8, fun i hi => by rw [show i = 0 by omega]; exact ⟨b9, b10⟩⟩
  refine ⟨t3, T2, ?_, c2, a3.trans b3, ?_, fun v h1 h2 => ?_, ?_, c3, fun v hv => ?_, fun g hg => ?_, w2.trans (c5.sub rfl rfl), ⟨fun i hi => ⟨?_, ?_⟩, fun v hv => ?_, fun g hg => ?_, ?_, fun i _ => (w2.trans (c5.sub rfl rfl) : frM (178 :: 179 :: 180 :: 181 :: gro9) [63] τ t3).rd (j := 182) rfl i⟩⟩
  · rw [e332_0 (d + 2), c_in (by omega) (by omega) (by omega), i32_ixn (by omega), hfr.2.1.2.2.2.2.2.1, a1, e332_35 (d + 2), bI_ok b1, c_in (by omega) (by omega) (by omega), c_in (by omega) (by omega) (by omega), i32_ixn (by omega), b12.rd (j := 143) rfl, a7.rd (j := 143) rfl, hfr.2.1.2.2.2.1, c1, e332_91 (d + 2), c_in (by omega) (by omega) (by omega), i32_ixn (by omega), c5.rd (j := 143) rfl, w2.rd (j := 143) rfl, hfr.2.1.2.2.2.1]
  · rw [e1] at u1
    exact a4.trans rfl u1
  · rw [c5.rd (j := 179) rfl, wr_nek (by omega), b12.rd (j := 179) rfl]
    have := a5 (v - D.tV f) (by omega)
    rw [show D.tV f + (v - D.tV f) = v by omega] at this
    exact this
  · rw [c5.rd (j := 180) rfl, wr_self, e1]
  · rw [c5.rd (j := 179) rfl, wr_nek (by omega), b12.rd (j := 179) rfl, a6 v hv]
  · rw [c5.rd (j := 180) rfl, wr_nei hg, b12.rd (j := 180) rfl, a7.rd (j := 180) rfl]
  · rw [(c4 i hi).2, wr_nek (by decide), b12.rd (j := 178) rfl, a7.rd (j := 178) rfl]
  · rw [(c4 i hi).1, wr_nek (by decide), b12.rd (j := 181) rfl, a7.rd (j := 181) rfl]
  · rw [c5.rd (j := 179) rfl, wr_nek (by omega), b12.rd (j := 179) rfl, a6 v hv]
  · rw [c5.rd (j := 180) rfl, wr_nei (by omega), b12.rd (j := 180) rfl, a7.rd (j := 180) rfl]
  · rw [(w2.trans (c5.sub rfl rfl) : frM (178 :: 179 :: 180 :: 181 :: gro9) [63] τ t3).2 82 rfl]; exact Int.le_refl _
end START42B
