/-! REGIONS, THE COMPONENT: from the owners to the end -/
section TAILC
variable {L : Nat} {xs : Nat → Int32} {σ σ' τ : tvS} {D : pgD} {Gs : sgD} {m f : Nat} {K1 K2 N H S : Nat} {C : tG} {c : Nat → Nat} {h : Nat → Nat → Prop}
def FTL : List Nat := [50, 52, 57, 61, 65, 71, 72, 73, 74, 82, 83, 84, 85, 86]
/-- what the component has in the end of a function's regions -/
def RGEc (D : pgD) (f n fst kc0 rf : Nat) (bl : List Nat) (own : Nat → Int) (KL : Nat → List Nat) (kf : Nat → Nat) (kc : Nat) (σ σ' : tvS) : Prop :=
  (∀ k, k < bl.length → rd σ' 82 (fst + k) = i32 (own k)) ∧ (∀ q, q < fst → rd σ' 82 q = rd σ 82 q) ∧ (rd σ' 74 18 = i32 (kc : Int) ∧ kc ≤ ln σ' 85 ∧ kc0 ≤ kc ∧ kc ≤ kc0 + 60 * (D.bF (f + 1) - D.bF f)) ∧ (∀ i, i < kc0 → rd σ' 85 i = rd σ 85 i) ∧ (∀ i, i < D.bF f ∨ D.bF (f + 1) ≤ i → rd σ' 83 i = rd σ 83 i ∧ rd σ' 84 i = rd σ 84 i) ∧ (∀ i, D.bF f ≤ i → i < D.bF (f + 1) → rd σ' 83 i = i32 (kf i : Int) ∧ kf i + (KL i).length ≤ kc ∧ rd σ' 84 i = i32 ((KL i).length : Int) ∧ ∀ q, q < (KL i).length → rd σ' 85 (kf i + q) = i32 (((KL i).getD q 0 : Nat) : Int)) ∧
  (rd σ' 71 f = i32 (rf : Int) ∧ rd σ' 72 f = i32 ((nfil (fun k => own k = -1) bl.length).length : Int) ∧ (∀ g, g ≠ f → rd σ' 71 g = rd σ 71 g ∧ rd σ' 72 g = rd σ 72 g) ∧ RGT (rf + (nfil (fun k => own k = -1) bl.length).length) (fun q => if q < rf then rd σ 73 q else i32 (nfT bl (nfil (fun k => own k = -1) bl.length) (q - rf) : Int)) σ') ∧
  (∀ i, i ≠ 18 → rd σ' 74 i = rd σ 74 i) ∧ (∀ i, i ≠ 13 → rd σ' 65 i = rd σ 65 i) ∧ frG FTL [61, 73, 85] σ σ' ∧ ∀ i, inL [12, 14, 15, 16, 17] i = false → rd σ' 50 i = rd σ 50 i
theorem tail_c {n0 n fst kc0 rf lx : Nat} {pe fr : Nat → Nat} {bl : List Nat} {own : Nat → Int} {pt by' : Nat → Nat} {lv : Nat → Nat} (hF : PGF D m) (hf : f ≤ D.fc) (hR : PGR D σ τ) (hK2 : 6 ≤ K2) (hT : CT K1 K2 N C c h H S σ) (hQ : QP n pe σ) (hpe : ∀ i, i < n → pe i < N) (hn : n ≤ 32768) (hB : BXL f fst bl σ) (hbl : ∀ x, x ∈ bl → x < N) (hd : (bl.map c).Nodup) (hl60 : bl.length ≤ 60) (hfr : FRm D f n fr σ) (hfr0 : fr (D.bP f) = n0) (hsv : ∀ p, D.bP f ≤ p → p ≤ D.bP (f + 1) → rd σ 78 p = i32 (svO D f p : Int)) (hpt : FNP D f pt by')
    (hnb : ∀ i, n0 ≤ i → i < n → ∃ k, k < bl.length ∧ c (bl.getD k 0) = c (pe i) ∧ rd σ 76 i = i32 (own k)) (hown : ∀ k, k < bl.length → -1 ≤ own k ∧ own k < 4101) (hcov : ∀ k, k < bl.length → ∃ i, n0 ≤ i ∧ i < n ∧ c (bl.getD k 0) = c (pe i)) (hty : TYc D f N σ) (hv67 : ∀ v, D.tV f ≤ v → v < D.tV (f + 1) → rd σ 67 v = i32 (vT σ v : Int) ∧ vT σ v < N) (hG : RGV D m σ τ) (hlv : ∀ v, v < D.tV (D.fc + 1) → rd σ 30 v = i32 (lv v : Int) ∧ lv v < m) (h43 : rd σ 43 f = i32 (lx : Int)) (hlx : lx < 3001) (h13 : rd σ 13 lx ≠ i32 (-1))
    (hk18 : rd σ 74 18 = i32 (kc0 : Int)) (hk85 : kc0 ≤ ln σ 85) (hkc : kc0 + 60 * (D.bF (f + 1) - D.bF f) + 60 < 65536) (h13r : rd σ 65 13 = i32 (rf : Int)) (hrf : rf ≤ ln σ 73) (hrf2 : rf + 60 < 2048) (hS : S + 2 * (D.bP (f + 1) - D.bP f) + 2 * (D.tV (f + 1) - D.tV f) + 2 < 2147483648) (d : Nat) (v3 v4 v5 : Value) :
    ∃ (pl : Int32) (ML : List Nat) (PL : List (Nat × Nat)), pl = wfo (fun q => gbN C c h (vT σ q)) (fun q => rd σ 13 (lv q)) (D.tV (f + 1) - D.tV f) (D.tV f) (wfo (fun q => gbN C c h (oT σ q)) (fun q => rd σ 13 (D.lx q)) (D.bP (f + 1) - D.bP f) (D.bP f) (i32 (-1))) ∧ ML.Nodup ∧ (∀ t, t ∈ ML ↔ c t = t ∧ C.1 t ≠ 1 ∧ RQ C c h (SGb D f (vT σ) (rT σ f)) t) ∧ PL.Nodup ∧ (∀ e, e ∈ PL ↔ e.1 ∈ ML ∧ ∃ v, h e.1 v ∧ c v = e.2 ∧ C.1 e.2 ≠ 1) ∧
    ((∃ s : tvS, ((pl ≠ i32 (-1) ∧ rn L xs (d + 7) 163 205 [.ref 74, .int (i32 (f : Int)), .int (i32 (n0 : Int)), v3, v4, v5] [] σ = some (.inr (1016, (rm s).1), cFlt s 6 pl)) ∨ (pl = i32 (-1) ∧ (24 < ML.length - unk C ML ∨ 40 < unk C ML ∨ 100 < PL.length) ∧ rn L xs (d + 7) 163 205 [.ref 74, .int (i32 (f : Int)), .int (i32 (n0 : Int)), v3, v4, v5] [] σ = some (.inr (1016, (rm s).1), cFlt s 6 (rd σ 13 lx)))) ∧ RLQ K1 K2 s) ∨
     (pl = i32 (-1) ∧ ¬ (24 < ML.length - unk C ML ∨ 40 < unk C ML ∨ 100 < PL.length) ∧ ∃ (σ' : tvS) (S' kc : Nat) (kf : Nat → Nat), rn L xs (d + 7) 163 205 [.ref 74, .int (i32 (f : Int)), .int (i32 (n0 : Int)), v3, v4, v5] [] σ = some (.inl none, σ') ∧ CT K1 K2 N C c h H S' σ' ∧ S' = S + 2 * (D.bP (f + 1) - D.bP f) + 2 * (D.tV (f + 1) - D.tV f) + 2 ∧ RGEc D f n fst kc0 rf bl own (fun j => nfil (mkC D f by' c pe bl own fr j) bl.length) kf kc σ σ')) := by
  have hb4 := hF.1
  have hbl' := (hF.le (D.fc + 1 - (f + 1)) (f + 1) (by omega))
  have hPf := hF.2.2 f hf
  have hlt := hPf.1.1
  have hff := hR.1 f hf
  have hk5 := hPf.1.2.2.2
  have hlv' := hPf.1.2.1
  obtain ⟨hTC, hRm⟩ : TC N C c σ ∧ ROOM K1 K2 σ := by
    obtain ⟨_, _, h1, _, _, _, h5, _⟩ := hT; exact ⟨h1, h5⟩
  have hN := hTC.lt hRm
  obtain ⟨f1, f2, f3, f4⟩ := id hfr
  have hn0n : n0 ≤ n := by rw [← hfr0, ← f3]; exact f2 _ _ (Nat.le_refl _) (by omega) (Nat.le_refl _)
  -- owners
  obtain ⟨s1, a1, a2, a3, a4, a5, a6⟩ := settle_loop (L := L) (xs := xs) (own := own) (n0 := n0) (σ0 := σ) (show f < 21 by omega) (by omega) hn hbl hd hl60 hpe hnb (d + 3) (n - n0) n0 σ (.int (i32 (n0 : Int))) (by omega) (Nat.le_refl _) hTC hRm hQ hB frW.refl (fun k i h1 h2 => by omega) (fun _ _ => rfl)
  have o82 : ∀ k, k < bl.length → rd s1 82 (fst + k) = i32 (own k) := fun k hk => by
    obtain ⟨i, i1, i2, i3⟩ := hcov k hk
    exact a5 k i i1 i2 hk i3
  have hQ1 : QP n pe s1 := ⟨by rw [a4.1 74 rfl]; exact hQ.1, by rw [a4.ln]; exact hQ.2.1, by rw [a4.ln, a4.ln]; exact hQ.2.2.1, fun i hi => by rw [a4.1 75 rfl]; exact hQ.2.2.2 i hi⟩
  have hB1 : BXL f fst bl s1 := by
    obtain ⟨⟨b1, b2, b3, b4, b5⟩, b6, b7⟩ := hB
    exact ⟨⟨by rw [a4.1 79 rfl]; exact b1, by rw [a4.1 80 rfl]; exact b2, by rw [a4.ln]; exact b3, by rw [a4.ln]; exact b4, fun i hi => by rw [a4.1 81 rfl]; exact b5 i hi⟩, by rw [a4.1 74 rfl]; exact b6, by rw [a4.ln, a4.ln]; exact b7⟩
  have hR1 : PGR D s1 τ := hR.to (fun j hj i => a4.1 j (inL_off (S := prC) (S' := [52, 82]) (by decide) j hj) i) (fun _ _ _ => rfl)
  -- kept numbers
  obtain ⟨s2, kc, kf, b1, b2⟩ := keeps_fns (L := L) (xs := xs) (K1 := K1) (K2 := K2) (C := C) (own := own) (n0 := n0) (fst := fst) (σ0 := s1) (kc0 := kc0) hF hf hR1 hpt ⟨fun p h1 h2 => by rw [a4.1 77 rfl]; exact f1 p h1 h2, f2, f3, f4⟩ hfr0 (fun p h1 h2 => by rw [a4.1 78 rfl]; exact hsv p h1 h2) (by omega) hbl hd hl60 hpe (fun i h1 h2 => by rw [a4.1 76 rfl]; exact hnb i h1 h2) (fun k hk => ⟨o82 k hk, hown k hk⟩) hkc (d + 3) (D.bF (f + 1) - D.bF f) (D.bF f) kc0 (fun _ => 0) s1 jv jv jv jv (by have := hPf.1.2.2.1; omega) (Nat.le_refl _) ⟨a2, a3, hQ1, hB1, frG.refl, fun _ _ => rfl, ⟨by rw [a4.1 74 rfl]; exact hk18, by rw [a4.ln]; exact hk85, Nat.le_refl _, by omega⟩, fun _ _ => rfl, fun _ _ => ⟨rfl, rfl⟩, fun i h1 h2 => by omega⟩
  obtain ⟨c1, c2, c3, c4, c5, c6, c7, c8, c9, c10⟩ := b2
  -- what the function gets
  obtain ⟨s3, es3⟩ : ∃ s3, s3 = wr (wr s2 71 f (i32 (rf : Int))) 72 f 0 := ⟨_, rfl⟩
  have w3 : frW [71, 72] s2 s3 := by rw [es3]; exact (frW_wr rfl).trans (frW_wr rfl)
  have e65 : rd s2 65 13 = i32 (rf : Int) := by rw [c5.1 65 rfl, a4.1 65 rfl]; exact h13r
  have hB3 : BXL f fst bl s3 := by
    obtain ⟨⟨b1, b2, b3, b4, b5⟩, b6, b7⟩ := c4
    exact ⟨⟨by rw [w3.1 79 rfl]; exact b1, by rw [w3.1 80 rfl]; exact b2, by rw [w3.ln]; exact b3, by rw [w3.ln]; exact b4, fun i hi => by rw [w3.1 81 rfl]; exact b5 i hi⟩, by rw [w3.1 74 rfl]; exact b6, by rw [w3.ln, w3.ln]; exact b7⟩
  have hR3 : ROOM K1 K2 s3 := c2.fr w3
  have l73 : ln s3 73 = ln σ 73 := by rw [w3.ln, (c5.2.2 73 rfl).1, a4.ln]
  have r73 : ∀ i, rd s3 73 i = rd σ 73 i := fun i => by rw [w3.1 73 rfl, c5.1 73 rfl, a4.1 73 rfl]
  obtain ⟨s4, u2, u3, u4, u5, d1, d2, d3, d4, d5⟩ := get_loop (L := L) (xs := xs) (K1 := K1) (K2 := K2) (own := own) (rf := rf) (gl := fun q => rd s3 73 q) (σ0 := s3) (show f < 21 by omega) hl60 hrf2 hB3 (fun k hk => ⟨by rw [w3.1 82 rfl, c5.1 82 rfl]; exact o82 k hk, hown k hk⟩) (d + 5) bl.length 0 s3 (.int (i32 (n0 : Int))) (dj (dj (dj v3))) (jk (dj (dj (dj v4)))) (by omega) hR3 frGt.refl ⟨by show rd s3 65 13 = i32 ((rf + 0 : Nat) : Int); rw [w3.1 65 rfl]; exact e65, by show rf + 0 ≤ ln s3 73; rw [l73]; exact hrf, fun q hq => by
    have hq : q < rf + 0 := hq
    exact (if_pos (show q < rf by omega)).symm⟩ (by rw [es3, wr_self]; rfl)
  have w14 : frG [52, 65, 71, 72, 73, 74, 82, 83, 84, 85, 86] [73, 85] σ s4 := ((a4.G [73, 85]).sub rfl rfl : frG [52, 65, 71, 72, 73, 74, 82, 83, 84, 85, 86] [73, 85] σ s1).trans ((c5.sub rfl rfl).trans (((w3.G [73, 85]).sub rfl rfl).trans (d3.1.sub rfl rfl)))
  have hTC4 : TC N C c s4 := ((c1.T (w3.T [] [] rfl) rfl ⟨rfl, rfl, rfl, rfl⟩ (fun _ _ _ => rfl)).T (S := [65, 72, 73]) (T := [73]) (F := []) ⟨d3.1.sub rfl rfl, fun i _ => d3.1.1 50 rfl i⟩ rfl ⟨rfl, rfl, rfl, rfl⟩ (fun j h1 h2 => by
    have : j = 51 ∨ j = 52 ∨ j = 53 ∨ j = 54 ∨ j = 55 ∨ j = 56 ∨ j = 57 ∨ j = 58 := by omega
    rcases this with h | h | h | h | h | h | h | h <;> subst h <;> rfl))
  have hT4 : CT K1 K2 N C c h H S s4 := hT.num w14 rfl rfl hTC4 d2
  -- what is too much
  have eo : ∀ q, oT s4 q = oT σ q := fun q => by unfold oT; rw [w14.1 66 rfl]
  have ev : vT s4 = vT σ := by funext q; unfold vT; rw [w14.1 67 rfl]
  have er : rT s4 f = rT σ f := by unfold rT; rw [w14.1 68 rfl]
  have hR4 : PGR D s4 τ := hR.to (fun j hj i => w14.1 j (inL_off (S := prC) (S' := [52, 65, 71, 72, 73, 74, 82, 83, 84, 85, 86]) (by decide) j hj) i) (fun _ _ _ => rfl)
  have hty4 : TYc D f N s4 := ⟨fun p h1 h2 => by rw [eo, w14.1 66 rfl]; exact hty.1 p h1 h2, fun p v h1 h2 h3 => by rw [ev, w14.1 67 rfl]; exact hty.2.1 p v h1 h2 h3, by rw [er, w14.1 68 rfl]; exact hty.2.2⟩
  have hG4 : RGV D m s4 τ := hG.to (fun i => w14.1 15 rfl i) (fun i => w14.1 30 rfl i) (fun _ => rfl)
  obtain ⟨s5, x4, g1, g2, g3⟩ := worse_parts (L := L) (xs := xs) (H := H) (h := h) hF hf hR4 hty4 (d + 1) (D.bP (f + 1) - D.bP f) (D.bP f) S s4 (i32 (-1)) jv (by omega) (Nat.le_refl _) (by omega) hT4 frT.refl
  obtain ⟨s6, q1, q2, q3⟩ := worse_vars (L := L) (xs := xs) (H := H) (h := h) (σ0 := s4) hF hf hG4 (fun v h1 h2 => by rw [ev, w14.1 67 rfl]; exact hv67 v h1 h2) lv (fun v hv => by rw [w14.1 30 rfl]; exact hlv v hv) (d + 1) (D.tV (f + 1) - D.tV f) (D.tV f) _ s5 _ (by omega) (Nat.le_refl _) (by omega) g2 g3
  obtain ⟨pl, epl⟩ : ∃ pl, pl = wfo (fun q => gbN C c h (vT σ q)) (fun q => rd σ 13 (lv q)) (D.tV (f + 1) - D.tV f) (D.tV f) (wfo (fun q => gbN C c h (oT σ q)) (fun q => rd σ 13 (D.lx q)) (D.bP (f + 1) - D.bP f) (D.bP f) (i32 (-1))) := ⟨_, rfl⟩
  have epl4 : wfo (fun q => gbN C c h (vT s4 q)) (fun q => rd s4 13 (lv q)) (D.tV (f + 1) - D.tV f) (D.tV f) (wfo (fun q => gbN C c h (oT s4 q)) (fun q => rd s4 13 (D.lx q)) (D.bP (f + 1) - D.bP f) (D.bP f) (i32 (-1))) = pl := by
    rw [epl, wfo_congr (b' := fun q => gbN C c h (oT σ q)) (it' := fun q => rd σ 13 (D.lx q)) _ _ _ (fun q _ _ => ⟨by show gbN C c h (oT s4 q) = _; rw [eo], w14.1 13 rfl _⟩)]
    exact wfo_congr _ _ _ (fun q _ _ => ⟨by show gbN C c h (vT s4 q) = _; rw [ev], w14.1 13 rfl _⟩)
  rw [epl4] at q1
  obtain ⟨s7, ML, PL, y, t1, t2, t3, t4, t5, t6, t7, t8, t9⟩ := isGreat_c (L := L) (xs := xs) (σ0 := s4) hF hf hR4 (fun k hk => by rw [ev, w14.1 67 rfl]; exact hv67 _ (by omega) (by omega)) (by
    have hle : ∀ j g, g + j = D.fc + 1 → D.tV g ≤ D.tV (D.fc + 1) := by
      intro j
      induction j with
      | zero => intro g e; rw [show g = D.fc + 1 by omega]; exact Nat.le_refl _
      | succ j ih => intro g e; exact Nat.le_trans (by have := (hF.2.2 g (by omega)).1.2.1; omega) (ih (g + 1) (by omega))
    have := hle (D.fc - f) (f + 1) (by omega)
    omega) (by rw [er, w14.1 68 rfl]; exact hty.2.2) q2 (by omega) (q3.sub rfl rfl rfl) d
  rw [ev, er] at t5
  refine ⟨pl, ML, PL, epl, t4, t5, t6, t7, ?_⟩
  have run : rn L xs (d + 7) 163 205 [.ref 74, .int (i32 (f : Int)), .int (i32 (n0 : Int)), v3, v4, v5] [] σ = bV (rn L xs (d + 6) 176 135 [.ref 74, .int (i32 (f : Int)), .int pl, .int (i32 (D.tV (f + 1) : Int)), .int (i32 (D.tV (f + 1) : Int))] [] s6) (fun s1 => some (.inl none, s1)) X0 := by
    have r172 : rn L xs (d + 6) 172 0 [.ref 74, .int (i32 (f : Int)), .int (i32 (n0 : Int)), jv] [] σ = some (.inl none, s1) := by rw [e172_0]; exact a1
    have r173 : rn L xs (d + 6) 173 0 [.ref 74, .int (i32 (f : Int)), jv, jv, jv, jv, jv] [] s1 = some (.inl none, s2) := by
      rw [e173_0, c_in (by omega) (by omega) (by omega), i32_ixn (by omega), a4.1 48 rfl, hff.1.2.2.2.2.1]; exact b1
    have r158 : rn L xs (d + 6) 158 0 [.ref 65, .int (i32 (f : Int))] [] s2 = some (.inl none, s3) := by
      rw [e158_0, c_in (by omega) (by omega) (by omega), c_in (by omega) (by omega) (by omega), i32_ixn (by omega), e65, ← es3]
    have d1' : rn L xs (d + 7) 163 227 [.ref 74, .int (i32 (f : Int)), .int (i32 (n0 : Int)), (dj (dj (dj v3))), (jk (dj (dj (dj v4)))), .int 1] [] s3 = rn L xs (d + 7) 163 270 [.ref 74, .int (i32 (f : Int)), u2, u3, u4, u5] [] s4 := d1
    have g54 : rn L xs (d + 6) 176 54 [.ref 74, .int (i32 (f : Int)), .int (wfo (fun q => gbN C c h (oT s4 q)) (fun q => rd s4 13 (D.lx q)) (D.bP (f + 1) - D.bP f) (D.bP f) (i32 (-1))), .int (i32 (D.bP (f + 1) : Int)), x4] [] s5 = rn L xs (d + 6) 176 98 [.ref 74, .int (i32 (f : Int)), .int (wfo (fun q => gbN C c h (oT s4 q)) (fun q => rd s4 13 (D.lx q)) (D.bP (f + 1) - D.bP f) (D.bP f) (i32 (-1))), .int (i32 (D.tV (f + 1) : Int)), .int (i32 (D.tV f : Int))] [] s5 := by
      have e45 : ∀ g, g ≤ D.fc → rd s5 45 g = i32 (D.tV g : Int) := fun g hg => by rw [g3.rd (j := 45) rfl, w14.1 45 rfl]; exact (hR.1 g hg).1.2.1
      have e1538 : rd s5 15 38 = i32 (D.fc : Int) := by rw [g3.rd (j := 15) rfl]; exact hG4.1
      have e1519 : rd s5 15 19 = i32 (D.tV (D.fc + 1) : Int) := by rw [g3.rd (j := 15) rfl]; exact hG4.2.1
      by_cases q : f = D.fc
      · rw [e176_54, e1538, c2_ge (by omega) (by omega) (by omega) (by omega), c_t (by omega), e176_79, e176_86, c_in (by omega) (by omega) (by omega), i32_ixn (by omega), e45 f hf, e1519, ← q]
      · rw [e176_54, e1538, c2_ge (by omega) (by omega) (by omega) (by omega), c_f (by omega), i32_up, c_in (by omega) (by omega) (by omega), i32_ixn (by omega), e45 (f + 1) (by omega), e176_86, c_in (by omega) (by omega) (by omega), i32_ixn (by omega), e45 f hf]
    have r176 : rn L xs (d + 6) 176 0 [.ref 74, .int (i32 (f : Int)), jv, jv, jv] [] s4 = rn L xs (d + 6) 176 135 [.ref 74, .int (i32 (f : Int)), .int pl, .int (i32 (D.tV (f + 1) : Int)), .int (i32 (D.tV (f + 1) : Int))] [] s6 := by
      rw [e176_0, c_in (by omega) (by omega) (by omega), i32_ixn (by omega), w14.1 46 rfl, hff.1.2.2.1, i32_raw, g1, g54, q1]
    rw [e163_205 (d + 6), bV_ok r172, bV_ok r173, bV_ok r158, d1', e163_270, r176]
  have hRm6 : ROOM K1 K2 s6 := by obtain ⟨_, _, _, _, _, _, h5, _⟩ := q2; exact h5
  have hRm7 : ROOM K1 K2 s7 := by obtain ⟨_, _, _, _, _, _, h5, _⟩ := t8; exact h5
  have flt : ∀ (s : tvS) (z : Int32) (w1 w3 w4 : Value), ROOM K1 K2 s → z ≠ i32 (-1) → rn L xs (d + 6) 176 165 [.ref 74, w1, .int z, w3, w4] [] s = some (.inr (1016, (rm s).1), cFlt s 6 z) := fun s z w1 w3 w4 hr hz => by
    have p45 : rn L xs (d + 5) 45 0 [.ref 5, .int 6, .int z] [] s = some (.inr (1016, (rm s).1), cFlt s 6 z) := by
      rw [e45_0, (hr.wr.wr : ROOM K1 K2 (wr (wr s 5 0 6) 5 1 z)).xn hK2, cond_true]; rfl
    have hne : pv_c2 .eq z (i32 (-1)) = false := decide_eq_false hz
    rw [e176_165, i32_raw, hne, cond_false, p45]; rfl
  by_cases hp : pl = i32 (-1)
  · have h135 : rn L xs (d + 6) 176 135 [.ref 74, .int (i32 (f : Int)), .int pl, .int (i32 (D.tV (f + 1) : Int)), .int (i32 (D.tV (f + 1) : Int))] [] s6 = cond (pv_c1 .eq y) (rn L xs (d + 6) 176 165 [.ref 74, .int (i32 (f : Int)), .int pl, (dj (.int (i32 (D.tV (f + 1) : Int)))), (dj (.int (i32 (D.tV (f + 1) : Int))))] [] s7) (cond (pv_in (i32 (f : Int)) 21) (bI (rn L xs (d + 5) 58 0 [.ref 6, .int (rd s7 43 (ix (i32 (f : Int))))] [] s7) (fun a4 s3 => rn L xs (d + 6) 176 165 [.ref 74, .int (i32 (f : Int)), .int a4, (dj (dj (.int (i32 (D.tV (f + 1) : Int))))), (dj (dj (.int (i32 (D.tV (f + 1) : Int)))))] [] s3) X0) none) := by
      have hne : pv_c2 .ne pl (i32 (-1)) = false := by rw [hp]; decide
      rw [e176_135 (d + 5), i32_raw, hne, cond_false, bI_ok t1]
    rcases t2 with ty | ty
    · -- all is well
      have hng : ¬ (24 < ML.length - unk C ML ∨ 40 < unk C ML ∨ 100 < PL.length) := fun k => by
        have := t3.mpr k
        rw [ty] at this; cases this
      refine .inr ⟨hp, hng, s7, _, kc, kf, ?_, t8, rfl, ?_⟩
      · rw [run, h135, ty, show pv_c1 .eq (0 : Int32) = true from rfl, cond_true, e176_165, i32_raw, hp, c2_refl, e176_180]; rfl
      · have w47 := t9
        have r7 : ∀ j i, inL [50, 52, 57, 61] j = false → rd s7 j i = rd s4 j i := fun j i hj => w47.1.1 j hj i
        have l7 : ∀ j, inL [61] j = false → ln s7 j = ln s4 j := fun j hj => (w47.1.2.2 j hj).1
        refine ⟨fun k hk => ?_, fun q hq => ?_, ⟨?_, ?_, c7.2.2.1, c7.2.2.2⟩, fun i hi => ?_, fun i hi => ?_, fun i h1 h2 => ?_, ⟨?_, ?_, fun g hg => ?_, ?_⟩, fun i hi => ?_, fun i hi => ?_, ?_, fun i hi => ?_⟩
        · rw [r7 82 _ rfl, d3.1.1 82 rfl, w3.1 82 rfl, c5.1 82 rfl]; exact o82 k hk
        · rw [r7 82 _ rfl, d3.1.1 82 rfl, w3.1 82 rfl, c5.1 82 rfl]; exact a6 q hq
        · rw [r7 74 _ rfl, d3.1.1 74 rfl, w3.1 74 rfl]; exact c7.1
        · rw [l7 85 rfl, (d3.1.2.2 85 rfl).1, w3.ln]; exact c7.2.1
        · rw [r7 85 _ rfl, d3.1.1 85 rfl, w3.1 85 rfl, c8 i hi, a4.1 85 rfl]
        · rw [r7 83 _ rfl, r7 84 _ rfl, d3.1.1 83 rfl, d3.1.1 84 rfl, w3.1 83 rfl, w3.1 84 rfl, (c9 i hi).1, (c9 i hi).2, a4.1 83 rfl, a4.1 84 rfl]; exact ⟨rfl, rfl⟩
        · rw [r7 83 _ rfl, r7 84 _ rfl, d3.1.1 83 rfl, d3.1.1 84 rfl, w3.1 83 rfl, w3.1 84 rfl]
          obtain ⟨z1, z2, z3, z4⟩ := c10 i h1 h2
          exact ⟨z1, z2, z3, fun q hq => by rw [r7 85 _ rfl, d3.1.1 85 rfl, w3.1 85 rfl]; exact z4 q hq⟩
        · rw [r7 71 _ rfl, d3.1.1 71 rfl, es3, wr_nek (by decide), wr_self]
        · rw [r7 72 _ rfl]; exact d5
        · rw [r7 71 _ rfl, r7 72 _ rfl, d3.1.1 71 rfl, d3.2.2 g hg, es3, wr_nek (by decide), wr_nei hg, wr_nei hg, wr_nek (by decide), c5.1 71 rfl, c5.1 72 rfl, a4.1 71 rfl, a4.1 72 rfl]; exact ⟨rfl, rfl⟩
        · refine ⟨by rw [r7 65 _ rfl]; exact d4.1, by rw [l7 73 rfl]; exact d4.2.1, fun q hq => ?_⟩
          rw [r7 73 _ rfl, d4.2.2 q hq]
          show (if q < rf then rd s3 73 q else _) = (if q < rf then rd σ 73 q else _)
          rw [r73]
        · rw [r7 74 _ rfl, d3.1.1 74 rfl, w3.1 74 rfl, c6 i hi, a4.1 74 rfl]
        · rw [r7 65 _ rfl, d3.2.1 i hi, w3.1 65 rfl, c5.1 65 rfl, a4.1 65 rfl]
        · exact (w14.sub rfl rfl : frG FTL [61, 73, 85] σ s4).trans (w47.1.sub rfl rfl)
        · rw [w47.2 i hi]; exact w14.1 50 rfl i
    · have hgr := t3.mp ty
      have r43 : rd s7 43 f = i32 (lx : Int) := by rw [t9.rd (j := 43) rfl, w14.1 43 rfl]; exact h43
      have p58 : rn L xs (d + 5) 58 0 [.ref 6, .int (i32 (lx : Int))] [] s7 = some (.inl (some (.int (rd σ 13 lx))), s7) := by
        rw [e58_0, c_in (by omega) (by omega) (by omega), i32_ixn (by omega), t9.rd (j := 13) rfl, w14.1 13 rfl]
      refine .inl ⟨s7, .inr ⟨hp, hgr, ?_⟩, t8.rlq (by rw [(t9.1.2.2 76 rfl).1, (t9.1.2.2 75 rfl).1, (w14.2.2 76 rfl).1, (w14.2.2 75 rfl).1]; exact hQ.2.2.1) (by rw [(t9.1.2.2 82 rfl).1, (t9.1.2.2 81 rfl).1, (w14.2.2 82 rfl).1, (w14.2.2 81 rfl).1]; exact hB.2.2)⟩
      rw [run, h135, ty, show pv_c1 .eq (1 : Int32) = false from rfl, cond_false, c_in (by omega) (by omega) (by omega), i32_ixn (by omega), r43, bI_ok p58, flt s7 (rd σ 13 lx) _ _ _ hRm7 h13]; rfl
  · refine .inl ⟨s6, .inl ⟨hp, ?_⟩, q2.rlq (by rw [(q3.1.2.2 76 rfl).1, (q3.1.2.2 75 rfl).1, (w14.2.2 76 rfl).1, (w14.2.2 75 rfl).1]; exact hQ.2.2.1) (by rw [(q3.1.2.2 82 rfl).1, (q3.1.2.2 81 rfl).1, (w14.2.2 82 rfl).1, (w14.2.2 81 rfl).1]; exact hB.2.2)⟩
    have hne : pv_c2 .ne pl (i32 (-1)) = true := decide_eq_true hp
    rw [run, e176_135, i32_raw, hne, cond_true, flt s6 pl _ _ _ hRm6 hp]; rfl
end TAILC
