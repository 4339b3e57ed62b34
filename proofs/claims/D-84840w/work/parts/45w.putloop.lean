/-! REGIONS, THE COMPONENT: all parts' puts, and their numbers -/
section PUTLOOP
variable {L : Nat} {xs : Nat → Int32} {σ σ' σ0 τ : tvS} {D : pgD} {Gs : sgD} {m f : Nat}
/-- calls of older functions, in the component's memory -/
def CLc (D : pgD) (G : sgD) (f N : Nat) (σ : tvS) : Prop := ln σ 70 ≤ 32768 ∧ ∀ p, D.bP f ≤ p → p < D.bP (f + 1) → D.K p = 3 → D.vl p < f → ∃ n1 : Nat, rd σ 69 p = i32 (n1 : Int) ∧ n1 + D.cn G p ≤ ln σ 70 ∧ (∀ i, i < D.cn G p → rd σ 70 (n1 + i) = i32 (cT σ p i : Int) ∧ cT σ p i < N) ∧ rd σ 72 (D.vl p) = i32 (G.ng (D.vl p) : Int) ∧ G.ng (D.vl p) ≤ 24
def frPu (σ σ' : tvS) : Prop := frG [74, 75, 76, 77, 78] [75, 76] σ σ' ∧ ∀ i, i ≠ 7 → rd σ' 74 i = rd σ 74 i
theorem frPu.refl : frPu σ σ := ⟨frG.refl, fun _ _ => rfl⟩
theorem frPu.trans {a b e : tvS} (h : frPu a b) (g : frPu b e) : frPu a e := ⟨h.1.trans g.1, fun i hi => (g.2 i hi).trans (h.2 i hi)⟩
theorem frQ.P (h : frQ σ σ') : frPu σ σ' := ⟨h.1.sub rfl rfl, h.2⟩
theorem frPu.rd (h : frPu σ σ') {j : Nat} (hj : inL [74, 75, 76, 77, 78] j = false) (i : Nat) : rd σ' j i = rd σ j i := h.1.1 j hj i
theorem frPu_wr {k i : Nat} {x : Int32} (h : k = 77 ∨ k = 78) : frPu σ (wr σ k i x) := by
  rcases h with h | h <;> subst h
  · exact ⟨frG_wr rfl, fun i _ => wr_nek (by decide)⟩
  · exact ⟨frG_wr rfl, fun i _ => wr_nek (by decide)⟩
theorem PGR.P (h : PGR D σ0 τ) (w : frPu σ0 σ) : PGR D σ τ := h.to (fun j hj i => w.rd (inL_off (S := prC) (S' := [74, 75, 76, 77, 78]) (by decide) j hj) i) (fun _ _ _ => rfl)
/-- in the midst: so many parts have been asked -/
def PLI (D : pgD) (Gs : sgD) (f K1 K2 n0 k : Nat) (pe0 pe : Nat → Nat) (σ0 σ : tvS) : Prop :=
  ROOM K1 K2 σ ∧ QP (n0 + (puL D Gs f k).length) pe σ ∧ frPu σ0 σ ∧ (∀ i, i < n0 → pe i = pe0 i) ∧ (∀ (i : Nat) (e : Nat × Nat), (puL D Gs f k)[i]? = some e → pe (n0 + i) = pnC D σ0 e.1 e.2) ∧ ∀ q, q < k → rd σ 77 (D.bP f + q) = i32 ((n0 + (puL D Gs f q).length : Nat) : Int) ∧ rd σ 78 (D.bP f + q) = i32 (slN D f q : Int)
theorem slN_le : ∀ k, slN D f k ≤ k := by
  intro k
  induction k with
  | zero => exact Nat.le_refl _
  | succ k ih =>
    show slN D f k + D.sf f (D.bP f + k) ≤ k + 1
    unfold pgD.sf
    by_cases c : D.K (D.bP f + k) = 3 ∧ D.vl (D.bP f + k) = f
    · rw [if_pos c]; omega
    · rw [if_neg c]; omega
theorem put_loop {K1 K2 N n0 : Nat} {pe0 : Nat → Nat} (hF : PGF D m) (hf : f ≤ D.fc) (hR : PGR D σ0 τ) (hty : TYc D f N σ0) (hcl : CLc D Gs f N σ0) (hn : n0 + (puL D Gs f (D.bP (f + 1) - D.bP f)).length < 32768) (b : Int32) (d : Nat) : ∀ (j k : Nat) (σ : tvS) (pe : Nat → Nat) (v5 : Value), D.bP f + k + j = D.bP (f + 1) → PLI D Gs f K1 K2 n0 k pe0 pe σ0 σ →
    ∃ (σ' : tvS) (pe' : Nat → Nat) (w5 : Value), rn L xs (d + 3) 163 18 [.ref 74, .int (i32 (f : Int)), .int b, .int (i32 (slN D f k : Int)), .int (i32 ((D.bP f + k : Nat) : Int)), v5] [] σ = rn L xs (d + 3) 163 100 [.ref 74, .int (i32 (f : Int)), .int b, .int (i32 (slN D f (D.bP (f + 1) - D.bP f) : Int)), .int (i32 (D.bP (f + 1) : Int)), w5] [] σ' ∧ PLI D Gs f K1 K2 n0 (D.bP (f + 1) - D.bP f) pe0 pe' σ0 σ' := by
  have hb4 := hF.1
  have hbl := (hF.le (D.fc + 1 - (f + 1)) (f + 1) (by omega))
  have hPf := hF.2.2 f hf
  have hff := hR.1 f hf
  intro j
  induction j with
  | zero =>
    intro k σ pe v5 e hI
    have ek : k = D.bP (f + 1) - D.bP f := by omega
    obtain ⟨i1, i2, i3, i4⟩ := id hI
    refine ⟨σ, pe, v5, ?_, by rw [← ek]; exact hI⟩
    rw [show D.bP f + k = D.bP (f + 1) by omega, e163_18 (d + 2), c_in (by omega) (by omega) (by omega), i32_ixn (by omega), i3.rd (j := 47) rfl, hff.1.2.2.2.1, c2_ge (by omega) (by omega) (by omega) (by omega), c_t (by omega), ← ek]
  | succ j ih =>
    intro k σ pe v5 e hI
    obtain ⟨i1, i2, i3, i4, i5, i6⟩ := id hI
    have hR1 := hR.P i3
    have hp2 : D.bP f + k < D.bP (f + 1) := by omega
    have hsl := slN_le (D := D) (f := f) k
    have hll := puL_le (D := D) (Gs := Gs) (f := f) (D.bP (f + 1) - D.bP f - (k + 1)) (k + 1)
    rw [show k + 1 + (D.bP (f + 1) - D.bP f - (k + 1)) = D.bP (f + 1) - D.bP f by omega, puL_len] at hll
    have hst := put_step (L := L) (xs := xs) (p := D.bP f + k) (k := slN D f k) hF hf hR1 (by omega) hp2 (by omega) i2.1 b (d + 2) v5
    obtain ⟨s1, es1⟩ : ∃ s1, s1 = wr (wr σ 77 (D.bP f + k) (i32 ((n0 + (puL D Gs f k).length : Nat) : Int))) 78 (D.bP f + k) (i32 (slN D f k : Int)) := ⟨_, rfl⟩
    rw [← es1] at hst
    have w1 : frPu σ s1 := by rw [es1]; exact (frPu_wr (.inl rfl)).trans (frPu_wr (.inr rfl))
    have w0 : frPu σ0 s1 := i3.trans w1
    have hQ1 : QP (n0 + (puL D Gs f k).length) pe s1 := by
      rw [es1]
      exact ⟨by rw [wr_nek (by decide), wr_nek (by decide)]; exact i2.1, i2.2.1, i2.2.2.1, fun i hi => by rw [wr_nek (by decide), wr_nek (by decide)]; exact i2.2.2.2 i hi⟩
    have hRm : ROOM K1 K2 s1 := by rw [es1]; exact i1.wr.wr
    have h7 : ∀ q, q < k + 1 → rd s1 77 (D.bP f + q) = i32 ((n0 + (puL D Gs f q).length : Nat) : Int) ∧ rd s1 78 (D.bP f + q) = i32 (slN D f q : Int) := fun q hq => by
      rw [es1]
      by_cases c : q = k
      · rw [c]
        exact ⟨by rw [wr_nek (by decide), wr_self], by rw [wr_self]⟩
      · have := i6 q (by omega)
        exact ⟨by rw [wr_nek (by decide), wr_nei (by omega)]; exact this.1, by rw [wr_nei (by omega), wr_nek (by decide)]; exact this.2⟩
    have hRp := hR.2 (D.bP f + k) (by omega)
    have hPp := hPf.2.2.1 (D.bP f + k) (by omega) hp2
    have h16 : rd s1 16 (D.bP f + k) = i32 (D.K (D.bP f + k) : Int) := (w0.rd (j := 16) rfl _).trans hRp.1.1
    -- the part's puts
    obtain ⟨s2, pe2, b1, b2, b3, b4, b5⟩ : ∃ (s2 : tvS) (pe2 : Nat → Nat), rn L xs (d + 2) 164 0 [.ref 74, .int (i32 ((D.bP f + k : Nat) : Int)), .int (i32 (f : Int)), jv, jv] [] s1 = some (.inl none, s2) ∧ ROOM K1 K2 s2 ∧ QP (n0 + (puL D Gs f (k + 1)).length) pe2 s2 ∧ frQ s1 s2 ∧ (∀ i, i < n0 + (puL D Gs f k).length → pe2 i = pe i) ∧ ∀ i, i < D.np Gs f (D.bP f + k) → pe2 (n0 + (puL D Gs f k).length + i) = pnC D σ0 (D.bP f + k) i := by
      rw [puL_len]
      by_cases q1 : D.K (D.bP f + k) = 4 ∨ D.K (D.bP f + k) = 16 ∨ D.K (D.bP f + k) = 17
      · have hnp : D.np Gs f (D.bP f + k) = 1 := by unfold pgD.np; rw [if_pos q1]
        obtain ⟨t1, t2⟩ := hty.1 (D.bP f + k) (by omega) hp2
        obtain ⟨s2, a1, a2, a3, a4⟩ := puts_own (L := L) (xs := xs) (x := oT σ0 (D.bP f + k)) (by omega) h16 q1 ((w0.rd (j := 66) rfl _).trans t1) hRm hQ1 (by omega) (i32 (f : Int)) d jv jv
        refine ⟨s2, _, a1, a2, by rw [hnp, ← Nat.add_assoc]; exact a3, a4, fun i hi => ?_, fun i hi => ?_⟩
        · unfold upN; rw [if_neg (by omega)]
        · unfold upN pnC; rw [if_pos (by omega), if_pos q1]
      · by_cases q3 : D.K (D.bP f + k) = 3 ∧ D.vl (D.bP f + k) < f
        · have hnp : D.np Gs f (D.bP f + k) = Gs.ng (D.vl (D.bP f + k)) := by unfold pgD.np; rw [if_neg q1, if_pos q3]
          obtain ⟨n1, c1, c2, c3, c4, c5⟩ := hcl.2 (D.bP f + k) (by omega) hp2 q3.1 q3.2
          have hcn : D.cn Gs (D.bP f + k) = D.bk (D.vl (D.bP f + k)) + 1 + Gs.ng (D.vl (D.bP f + k)) := rfl
          have hkk := (hF.2.2 (D.vl (D.bP f + k)) (by omega)).1.2.2.2
          have l70 : ln s1 70 = ln σ0 70 := (w0.1.2.2 70 rfl).1
          obtain ⟨s2, pe2, a1, a2, a3, ⟨a4, a4'⟩, a5⟩ := puts_call (L := L) (xs := xs) (ng := Gs.ng (D.vl (D.bP f + k))) (kk := D.bk (D.vl (D.bP f + k))) (ce := cT σ0 (D.bP f + k)) (f := f) (by omega) (by omega) q3.2 (by rw [h16, q3.1]; rfl) ((w0.rd (j := 27) rfl _).trans (hRp.2.2.2.2.1 (.inr (.inl q3.1))).1) ((w0.rd (j := 72) rfl _).trans c4) ((w0.rd (j := 44) rfl _).trans (hR.1 (D.vl (D.bP f + k)) (by omega)).1.1) hkk (by omega) ((w0.rd (j := 69) rfl _).trans c1) (by rw [l70]; omega) (by rw [l70]; exact hcl.1) (fun i hi => (w0.rd (j := 70) rfl _).trans (c3 i (by omega)).1) hRm hQ1 (by omega) d jv jv
          refine ⟨s2, pe2, a1, a2, by rw [hnp, ← Nat.add_assoc]; exact a3, a5, a4, fun i hi => ?_⟩
          unfold pnC
          rw [if_neg q1]
          exact a4' i _ (by rw [List.getElem?_map, List.getElem?_range (by omega)]; rfl)
        · have hnp : D.np Gs f (D.bP f + k) = 0 := by unfold pgD.np; rw [if_neg q1, if_neg q3]
          have a1 := puts_no (L := L) (xs := xs) (f := f) (κ := D.K (D.bP f + k)) (by omega) h16 hPp.1.1 (fun h => q1 (.inl h)) (fun h => q1 (.inr (.inl h))) (fun h => q1 (.inr (.inr h))) (fun h3 => by
            rw [w0.rd (j := 27) rfl, (hRp.2.2.2.2.1 (.inr (.inl h3))).1]
            have := (hPp.2.2.2.1 h3).2.1
            have : ¬ D.vl (D.bP f + k) < f := fun g => q3 ⟨h3, g⟩
            rw [show D.vl (D.bP f + k) = f by omega]) (by omega) d jv jv
          exact ⟨s1, pe, a1, hRm, by rw [hnp]; exact hQ1, frQ.refl, fun _ _ => rfl, fun i hi => by omega⟩
    have hI2 : PLI D Gs f K1 K2 n0 (k + 1) pe0 pe2 σ0 s2 := by
      refine ⟨b2, b3, w0.trans b4.P, fun i hi => by rw [b5.1 i (by omega)]; exact i4 i hi, fun i e' he => ?_, fun q hq => by rw [b4.rd (j := 77) rfl, b4.rd (j := 78) rfl]; exact h7 q hq⟩
      have hil : i < (puL D Gs f (k + 1)).length := (List.getElem?_eq_some_iff.mp he).1
      by_cases c : i < (puL D Gs f k).length
      · have he2 : (puL D Gs f k)[i]? = some e' := by
          rw [← he]
          show (puL D Gs f k)[i]? = (puL D Gs f k ++ _)[i]?
          rw [List.getElem?_append_left c]
        rw [b5.1 _ (by omega)]; exact i5 i e' he2
      · rw [puL_len] at hil
        have h2 := puL_at (D := D) (Gs := Gs) (f := f) k (i - (puL D Gs f k).length) (by omega)
        rw [show (puL D Gs f k).length + (i - (puL D Gs f k).length) = i by omega] at h2
        have e3 := Option.some.inj (h2.symm.trans he)
        rw [← e3]
        have := b5.2 (i - (puL D Gs f k).length) (by omega)
        rw [show n0 + (puL D Gs f k).length + (i - (puL D Gs f k).length) = n0 + i by omega] at this
        exact this
    obtain ⟨σ', pe', w5, z1, z2⟩ := ih (k + 1) s2 pe2 (dj v5) (by omega) hI2
    refine ⟨σ', pe', w5, ?_, z2⟩
    rw [hst, bV_ok b1]
    exact z1
end PUTLOOP
