/-! REGIONS, THE COMPONENT: what all fns of a function keep -/
section KEEPFNS
variable {L : Nat} {xs : Nat → Int32} {σ σ' σ0 τ : tvS} {D : pgD} {Gs : sgD} {m f : Nat}
variable {K1 K2 N fst n0 n : Nat} {C : tG} {c pe : Nat → Nat} {bl : List Nat} {own : Nat → Int} {fr sv : Nat → Nat} {pt by' : Nat → Nat}
/-- what a fn keeps: by classes of puts -/
def mkC (D : pgD) (f : Nat) (by' : Nat → Nat) (c pe : Nat → Nat) (bl : List Nat) (own : Nat → Int) (fr : Nat → Nat) (j k : Nat) : Prop := (sfM D f by' j ∧ own k = -1) ∨ ∃ i', fr (D.st (by' j)) ≤ i' ∧ i' < fr (by' j + 1) ∧ c (bl.getD k 0) = c (pe i') ∧ (own k = -1 ∨ (by' j : Int) < own k)
def FKS : List Nat := [52, 74, 83, 84, 85, 86]
/-- between two fns -/
def KFI (K1 K2 N : Nat) (C : tG) (c : Nat → Nat) (n : Nat) (pe : Nat → Nat) (f fst : Nat) (bl : List Nat) (F0 j kc : Nat) (KL : Nat → List Nat) (kf : Nat → Nat) (kc0 : Nat) (σ0 σ : tvS) : Prop :=
  TC N C c σ ∧ ROOM K1 K2 σ ∧ QP n pe σ ∧ BXL f fst bl σ ∧ frG FKS [85] σ0 σ ∧ (∀ i, i ≠ 18 → rd σ 74 i = rd σ0 74 i) ∧ (rd σ 74 18 = i32 (kc : Int) ∧ kc ≤ ln σ 85 ∧ kc0 ≤ kc ∧ kc ≤ kc0 + 60 * (j - F0)) ∧ (∀ i, i < kc0 → rd σ 85 i = rd σ0 85 i) ∧ (∀ i, i < F0 ∨ j ≤ i → rd σ 83 i = rd σ0 83 i ∧ rd σ 84 i = rd σ0 84 i) ∧
  ∀ i, F0 ≤ i → i < j → rd σ 83 i = i32 (kf i : Int) ∧ kf i + (KL i).length ≤ kc ∧ rd σ 84 i = i32 ((KL i).length : Int) ∧ ∀ q, q < (KL i).length → rd σ 85 (kf i + q) = i32 (((KL i).getD q 0 : Nat) : Int)
theorem keeps_fns (hF : PGF D m) (hf : f ≤ D.fc) (hR : PGR D σ0 τ) (hpt : FNP D f pt by') (hfr : FRm D f n fr σ0) (hfr0 : fr (D.bP f) = n0) (hsv : ∀ p, D.bP f ≤ p → p ≤ D.bP (f + 1) → rd σ0 78 p = i32 (svO D f p : Int)) (hN : N ≤ 1000000) (hbl : ∀ x, x ∈ bl → x < N) (hd : (bl.map c).Nodup) (hl60 : bl.length ≤ 60) (hpe : ∀ i, i < n → pe i < N) (hnb : ∀ i, n0 ≤ i → i < n → ∃ k, k < bl.length ∧ c (bl.getD k 0) = c (pe i) ∧ rd σ0 76 i = i32 (own k)) (ho : ∀ k, k < bl.length → rd σ0 82 (fst + k) = i32 (own k) ∧ -1 ≤ own k ∧ own k < 4101) {kc0 : Nat} (hkc : kc0 + 60 * (D.bF (f + 1) - D.bF f) + 60 < 65536) (d : Nat) : ∀ (i j kc : Nat) (kf : Nat → Nat) (σ : tvS) (v3 v4 v5 v6 : Value), j + i = D.bF (f + 1) → D.bF f ≤ j → KFI K1 K2 N C c n pe f fst bl (D.bF f) j kc (fun i => nfil (mkC D f by' c pe bl own fr i) bl.length) kf kc0 σ0 σ →
    ∃ (σ' : tvS) (kc' : Nat) (kf' : Nat → Nat), rn L xs (d + 3) 173 10 [.ref 74, .int (i32 (f : Int)), .int (i32 (j : Int)), v3, v4, v5, v6] [] σ = some (.inl none, σ') ∧ KFI K1 K2 N C c n pe f fst bl (D.bF f) (D.bF (f + 1)) kc' (fun i => nfil (mkC D f by' c pe bl own fr i) bl.length) kf' kc0 σ0 σ' := by
  have hb4 := hF.1
  have hbl' := (hF.le (D.fc + 1 - (f + 1)) (f + 1) (by omega))
  have hPf := hF.2.2 f hf
  obtain ⟨f1, f2, f3, f4⟩ := id hfr
  intro i
  induction i with
  | zero =>
    intro j kc kf σ v3 v4 v5 v6 e hj hI
    have e : j = D.bF (f + 1) := by omega
    subst e
    refine ⟨σ, kc, kf, ?_, hI⟩
    rw [e173_10 (d + 2), c_in (by omega) (by omega) (by omega), i32_ixn (by omega), hI.2.2.2.2.1.1 49 rfl, (hR.1 f hf).1.2.2.2.2.2, c2_ge (by omega) (by omega) (by omega) (by omega), c_t (by omega), e173_253]
  | succ i ih =>
    intro j kc kf σ v3 v4 v5 v6 e hj hI
    obtain ⟨i1, i2, i3, i4, i5, i6, ⟨i7, i7', i7'', i7'''⟩, i8, i9, i10⟩ := hI
    obtain ⟨g1, g2, g3, g4, g5, g6, g7⟩ := hR.fn hF hf hpt hj (show j < D.bF (f + 1) by omega)
    obtain ⟨p1, p2, _⟩ := hpt j hj (by omega)
    have lo := f2 (D.bP f) (D.st (by' j)) (Nat.le_refl _) g4 (by omega)
    have mi := f2 (D.st (by' j)) (by' j + 1) g4 (by omega) (by omega)
    have hi := f2 (by' j + 1) (D.bP (f + 1)) (by omega) (by omega) (Nat.le_refl _)
    rw [f3] at hi
    have sv1 := slN_le (D := D) (f := f) (by' j + 1 - D.bP f)
    have sv2 := slN_le (D := D) (f := f) (D.st (by' j) - D.bP f)
    have svm : svO D f (D.st (by' j)) ≤ svO D f (by' j + 1) := by
      have : ∀ a b, slN D f a ≤ slN D f (a + b) := by
        intro a b
        induction b with
        | zero => exact Nat.le_refl _
        | succ b ih => exact Nat.le_trans ih (Nat.le_add_right _ _)
      have := this (D.st (by' j) - D.bP f) (by' j + 1 - D.st (by' j))
      rw [show D.st (by' j) - D.bP f + (by' j + 1 - D.st (by' j)) = by' j + 1 - D.bP f by omega] at this
      exact this
    have esf := svO_iff (D := D) (f := f) (by' := by') (j := j) g4 g5
    obtain ⟨s1, es1⟩ : ∃ s1, s1 = wr (wr σ 83 j (i32 (kc : Int))) 84 j 0 := ⟨_, rfl⟩
    have w1 : frW [83, 84] σ s1 := by rw [es1]; exact (frW_wr rfl).trans (frW_wr rfl)
    have wa : frG FKS [85] σ0 s1 := i5.trans ((w1.G [85]).sub rfl rfl)
    obtain ⟨x5, hx5, hs⟩ : ∃ x5 : Int32, rn L xs (d + 3) 173 10 [.ref 74, .int (i32 (f : Int)), .int (i32 (j : Int)), v3, v4, v5, v6] [] σ = rn L xs (d + 3) 173 97 [.ref 74, .int (i32 (f : Int)), .int (i32 (j : Int)), .int (i32 (by' j : Int)), .int (i32 (D.st (by' j) : Int)), .int x5, .int 1] [] s1 ∧ ((x5 = 1 ∧ sfM D f by' j) ∨ (x5 = 0 ∧ ¬ sfM D f by' j)) := by
      have head : rn L xs (d + 3) 173 10 [.ref 74, .int (i32 (f : Int)), .int (i32 (j : Int)), v3, v4, v5, v6] [] σ = cond (decide ((svO D f (by' j + 1) : Int) ≤ (svO D f (D.st (by' j)) : Int))) (rn L xs (d + 3) 173 91 [.ref 74, .int (i32 (f : Int)), .int (i32 (j : Int)), .int (i32 (by' j : Int)), .int (i32 (D.st (by' j) : Int)), v5, v6] [] s1) (rn L xs (d + 3) 173 92 [.ref 74, .int (i32 (f : Int)), .int (i32 (j : Int)), .int (i32 (by' j : Int)), .int (i32 (D.st (by' j) : Int)), v5, v6] [.int 1] s1) := by
        unfold svO
        rw [e173_10 (d + 2), c_in (by omega) (by omega) (by omega), i32_ixn (by omega), i5.1 49 rfl, (hR.1 f hf).1.2.2.2.2.2, c2_ge (by omega) (by omega) (by omega) (by omega), c_f (by omega), c_in (by omega) (by omega) (by omega), i32_ixn (by omega), i5.1 35 rfl, g1, c_in (by omega) (by omega) (by omega), i32_ixn (by omega), i5.1 20 rfl, g2, c_in (by omega) (by omega) (by omega), c_in (by omega) (by omega) (by omega), c_in (by omega) (by omega) (by omega), i32_up, c_in (by omega) (by omega) (by omega), i32_ixn (by omega), i32_ixn (by omega), i5.1 26 rfl, g3, c_in (by omega) (by omega) (by omega), i32_ixn (by omega), i5.1 78 rfl, i5.1 78 rfl, hsv _ (by omega) (by omega), hsv _ g4 (by omega), i7, ← es1]
        unfold svO
        rw [c2_le (by omega) (by omega) (by omega) (by omega)]
      by_cases q : sfM D f by' j
      · have := esf.mpr q
        exact ⟨1, by rw [head, decide_eq_false (by omega), cond_false, e173_92], .inl ⟨rfl, q⟩⟩
      · have : ¬ (svO D f (by' j + 1) ≠ svO D f (D.st (by' j))) := fun h => q (esf.mp h)
        exact ⟨0, by rw [head, decide_eq_true (by omega), cond_true, e173_91, e173_92], .inr ⟨rfl, q⟩⟩
    have i4' := i4
    obtain ⟨⟨b1, b2, b3, b4, b5⟩, b6, b7⟩ := i4'
    have hB1 : BXL f fst bl s1 := ⟨⟨by rw [w1.1 79 rfl]; exact b1, by rw [w1.1 80 rfl]; exact b2, by rw [w1.ln]; exact b3, by rw [w1.ln]; exact b4, fun i hi => by rw [w1.1 81 rfl]; exact b5 i hi⟩, by rw [w1.1 74 rfl]; exact b6, by rw [w1.ln, w1.ln]; exact b7⟩
    obtain ⟨s2, c1, c2, c3⟩ := marks_loop (L := L) (xs := xs) (slf := sfM D f by' j) (x5 := x5) (own := own) (σ0 := s1) (show f < 21 by omega) hl60 hs (fun k hk => by rw [wa.1 82 rfl]; exact ho k hk) hB1 (i32 (j : Int)) (i32 (by' j : Int)) (i32 (D.st (by' j) : Int)) (d + 1) bl.length 0 s1 (by omega) frW.refl (fun i hi => by omega)
    have w12 : frW [83, 84, 86] σ s2 := (w1.sub rfl).trans (c2.sub rfl)
    have hT2 : TC N C c s2 := i1.T (w12.T [] [] rfl) rfl ⟨rfl, rfl, rfl, rfl⟩ (fun _ _ _ => rfl)
    have hR2 : ROOM K1 K2 s2 := i2.fr w12
    have hQ2 : QP n pe s2 := ⟨by rw [w12.1 74 rfl]; exact i3.1, by rw [w12.ln]; exact i3.2.1, by rw [w12.ln, w12.ln]; exact i3.2.2.1, fun i hi => by rw [w12.1 75 rfl]; exact i3.2.2.2 i hi⟩
    have hB2 : BXL f fst bl s2 := ⟨⟨by rw [w12.1 79 rfl]; exact b1, by rw [w12.1 80 rfl]; exact b2, by rw [w12.ln]; exact b3, by rw [w12.ln]; exact b4, fun i hi => by rw [w12.1 81 rfl]; exact b5 i hi⟩, by rw [w12.1 74 rfl]; exact b6, by rw [w12.ln, w12.ln]; exact b7⟩
    have wb : frG FKS [85] σ0 s2 := wa.trans ((c2.G [85]).sub rfl rfl)
    obtain ⟨s3, w4, w5, d1, d2, d3, d4, d5, d6, d7⟩ := marks_puts (L := L) (xs := xs) (pt := pt j) (body := by' j) (hi := fr (by' j + 1)) (mk0 := fun _ => True) (n0 := n0) (own := own) (σ0 := s2) (show f < 21 by omega) hN f4 hbl hd hl60 hpe (by omega) hi (by rw [wb.1 77 rfl]; exact f1 _ (by omega) (by omega)) (fun i h1 h2 => by rw [wb.1 76 rfl]; exact hnb i h1 h2) (fun k hk => (ho k hk).2) (i32 (j : Int)) d (fr (by' j + 1) - fr (D.st (by' j))) (fr (D.st (by' j))) s2 (fun i => sfM D f by' j ∧ own i = -1) (.int (i32 (D.st (by' j) : Int))) (jk (.int x5)) (by omega) (by omega) hT2 hR2 hQ2 hB2 frW.refl c3
    have w3 : frW [83, 84, 86, 52] σ s3 := (w12.sub rfl).trans (d6.sub rfl)
    have h80 : rd s3 80 f = i32 (bl.length : Int) := by rw [w3.1 80 rfl]; exact b2
    have hs84 : rd s3 84 j = 0 := by rw [d6.1 84 rfl, c2.1 84 rfl, es1, wr_self]
    have hs83 : rd s3 83 j = i32 (kc : Int) := by rw [d6.1 83 rfl, c2.1 83 rfl, es1, wr_nek (by decide), wr_self]
    have hmk : MKs bl.length (mkC D f by' c pe bl own fr j) s3 := d7
    have h60m : 60 * (j - D.bF f) + 60 ≤ 60 * (D.bF (f + 1) - D.bF f) := by
      have : 60 * (j - D.bF f) + 60 = 60 * (j - D.bF f + 1) := by rw [Nat.mul_add]
      rw [this]; exact Nat.mul_le_mul_left _ (by omega)
    obtain ⟨s4, y3, y4, y5, e1, e2, e3, e4, e5⟩ := keep_loop (L := L) (xs := xs) (K1 := K1) (K2 := K2) (bl := bl) (kf := kc) (j := j) (kl := fun q => rd s3 85 q) (mk := mkC D f by' c pe bl own fr j) (σ0 := s3) (show f < 21 by omega) (by omega) hl60 (by omega) h80 hmk (d + 1) bl.length 0 s3 (.int (i32 (by' j : Int))) w4 (jk w5) (by omega) d3 frKp.refl ⟨by show rd s3 74 18 = i32 ((kc + 0 : Nat) : Int); rw [w3.1 74 rfl]; exact i7, by show kc + 0 ≤ ln s3 85; rw [w3.ln]; exact i7', fun q hq => by
      have hq : q < kc + 0 := hq
      exact (if_pos (show q < kc by omega)).symm⟩ (by rw [hs84]; rfl)
    have hlen := nfil_len (mk := mkC D f by' c pe bl own fr j) bl.length
    obtain ⟨kf', ekf1, ekf2⟩ : ∃ kf' : Nat → Nat, kf' j = kc ∧ ∀ i, i ≠ j → kf' i = kf i := ⟨fun i => if i = j then kc else kf i, if_pos rfl, fun i hi => if_neg hi⟩
    have w34 : frG [52, 74, 83, 84, 85, 86] [85] σ s4 := ((w3.G [85]).sub rfl rfl).trans (e3.1.sub rfl rfl)
    have hK : KFI K1 K2 N C c n pe f fst bl (D.bF f) (j + 1) (kc + (nfil (mkC D f by' c pe bl own fr j) bl.length).length) (fun i => nfil (mkC D f by' c pe bl own fr i) bl.length) kf' kc0 σ0 s4 := by
      refine ⟨d2.T (S := [74, 84, 85]) (T := [85]) (F := []) ⟨e3.1.sub rfl rfl, fun i _ => e3.1.1 50 rfl i⟩ rfl ⟨rfl, rfl, rfl, rfl⟩ (fun j h1 h2 => by
        have : j = 51 ∨ j = 52 ∨ j = 53 ∨ j = 54 ∨ j = 55 ∨ j = 56 ∨ j = 57 ∨ j = 58 := by omega
        rcases this with h | h | h | h | h | h | h | h <;> subst h <;> rfl), e2, ⟨by rw [e3.2.1 7 (by decide)]; exact d4.1, by rw [(e3.1.2.2 75 rfl).1]; exact d4.2.1, by rw [(e3.1.2.2 76 rfl).1, (e3.1.2.2 75 rfl).1]; exact d4.2.2.1, fun i hi => by rw [e3.1.1 75 rfl]; exact d4.2.2.2 i hi⟩, ⟨⟨by rw [e3.1.1 79 rfl]; exact d5.1.1, by rw [e3.1.1 80 rfl]; exact d5.1.2.1, by rw [(e3.1.2.2 81 rfl).1]; exact d5.1.2.2.1, by rw [(e3.1.2.2 81 rfl).1]; exact d5.1.2.2.2.1, fun i hi => by rw [e3.1.1 81 rfl]; exact d5.1.2.2.2.2 i hi⟩, by rw [e3.2.1 14 (by decide)]; exact d5.2.1, by rw [(e3.1.2.2 82 rfl).1, (e3.1.2.2 81 rfl).1]; exact d5.2.2⟩, i5.trans w34, fun i hi => by rw [e3.2.1 i hi, w3.1 74 rfl]; exact i6 i hi, ⟨e4.1, e4.2.1, by omega, by
          rw [show j + 1 - D.bF f = (j - D.bF f) + 1 by omega, Nat.mul_add]
          omega⟩, fun q hq => by
          rw [e4.2.2 q (by omega)]
          show (if q < kc then rd s3 85 q else _) = _
          rw [if_pos (by omega), w3.1 85 rfl]; exact i8 q hq, fun q hq => ?_, fun q h1 h2 => ?_⟩
      · rw [e3.1.1 83 rfl, e3.2.2 q (by omega), d6.1 83 rfl, d6.1 84 rfl, c2.1 83 rfl, c2.1 84 rfl, es1, wr_nek (by decide), wr_nei (by omega), wr_nei (by omega), wr_nek (by decide)]
        exact i9 q (by omega)
      · show rd s4 83 q = i32 (kf' q : Int) ∧ kf' q + (nfil (mkC D f by' c pe bl own fr q) bl.length).length ≤ kc + (nfil (mkC D f by' c pe bl own fr j) bl.length).length ∧ _
        by_cases g : q = j
        · rw [g, ekf1, e3.1.1 83 rfl]
          refine ⟨hs83, Nat.le_refl _, e5, fun i hi => ?_⟩
          have hi : i < (nfil (mkC D f by' c pe bl own fr j) bl.length).length := hi
          rw [e4.2.2 (kc + i) (by omega)]
          show (if kc + i < kc then _ else i32 (((nfil (mkC D f by' c pe bl own fr j) bl.length).getD (kc + i - kc) 0 : Nat) : Int)) = _
          rw [if_neg (by omega), show kc + i - kc = i by omega]
        · obtain ⟨q1, q2, q3, q4⟩ := i10 q h1 (by omega)
          rw [ekf2 q g, e3.1.1 83 rfl, e3.2.2 q g, d6.1 83 rfl, d6.1 84 rfl, c2.1 83 rfl, c2.1 84 rfl, es1, wr_nek (by decide), wr_nei g, wr_nei g, wr_nek (by decide)]
          have q2 : kf q + (nfil (mkC D f by' c pe bl own fr q) bl.length).length ≤ kc := q2
          refine ⟨q1, by omega, q3, fun i hi => ?_⟩
          have hi : i < (nfil (mkC D f by' c pe bl own fr q) bl.length).length := hi
          rw [e4.2.2 (kf q + i) (by omega)]
          show (if kf q + i < kc then rd s3 85 (kf q + i) else _) = _
          rw [if_pos (by omega), w3.1 85 rfl]; exact q4 i hi
    obtain ⟨σ', kc', kf2, z1, z2⟩ := ih (j + 1) (kc + (nfil (mkC D f by' c pe bl own fr j) bl.length).length) kf' s4 y3 y4 y5 (.int (i32 ((bl.length + 1 : Nat) : Int))) (by omega) (by omega) hK
    refine ⟨σ', kc', kf2, ?_, z2⟩
    rw [hx5]
    have c1' : rn L xs (d + 3) 173 97 [.ref 74, .int (i32 (f : Int)), .int (i32 (j : Int)), .int (i32 (by' j : Int)), .int (i32 (D.st (by' j) : Int)), .int x5, .int 1] [] s1 = rn L xs (d + 3) 173 142 [.ref 74, .int (i32 (f : Int)), .int (i32 (j : Int)), .int (i32 (by' j : Int)), .int (i32 (D.st (by' j) : Int)), .int x5, .int (i32 ((bl.length + 1 : Nat) : Int))] [] s2 := c1
    have e1' : rn L xs (d + 3) 173 213 [.ref 74, .int (i32 (f : Int)), .int (i32 (j : Int)), .int (i32 (by' j : Int)), w4, jk w5, .int 1] [] s3 = rn L xs (d + 3) 173 247 [.ref 74, .int (i32 (f : Int)), .int (i32 (j : Int)), y3, y4, y5, .int (i32 ((bl.length + 1 : Nat) : Int))] [] s4 := e1
    rw [c1', e173_142, c_in (by omega) (by omega) (by omega), i32_ixn (by omega), wb.1 77 rfl, f1 _ g4 (by omega), d1, e173_210, e1', e173_247, i32_up]
    exact z1
end KEEPFNS
