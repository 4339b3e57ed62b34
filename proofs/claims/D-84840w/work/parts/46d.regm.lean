/-! REGIONS, THE MODEL: from the start to the owners -/
section REGM
variable {L : Nat} {xs : Nat → Int32} {σ τ τ' : tvS} {D : pgD} {Gs : sgD} {m f : Nat}
variable {N B H1 S Sh : Nat} {G : tG} {r : Nat → Nat} {hl : Nat → List Nat} {hv : Nat → Nat} {S0 S1 : Nat} {vs us sc : Nat → Nat} {cl : Nat → List Nat}
theorem TGT.congr {rb rb' : Nat → Prop} {q : Nat} {o : Int} (h : TGT D f rb q o) (e : ∀ p, D.bP f ≤ p → p < D.bP (f + 1) → (rb p ↔ rb' p)) : TGT D f rb' q o := by
  rcases h with ⟨h1, h2⟩ | ⟨p, h1, h2, h3, h4, h5, h6⟩
  · exact .inl ⟨h1, fun p p1 p2 p3 => (e p p1 p2).mp (h2 p p1 p2 p3)⟩
  · exact .inr ⟨p, h1, h2, h3, h4, fun k => h5 ((e p h1 h2).mpr k), fun p' p1 p2 p3 => (e p' p1 (by omega)).mp (h6 p' p1 p2 p3)⟩
def LFm (D : pgD) (Gs : sgD) (f : Nat) (G : tG) (r : Nat → Nat) (h0 : Nat → Nat → Prop) (pt by' : Nat → Nat) (τ : tvS) : Nat → Nat → Prop := LFP D f G r h0 (Bsm D f τ) (D.np Gs f) (pnM D τ) (fun j => oM τ (pt j)) by' (sfM D f by') (cpM D pt by' τ)
def FRX : List Nat := [169, 170, 171, 174, 175, 176, 183, 184, 185, 186]
theorem reg_m {pt by' : Nat → Nat} {Rm : Nat → Nat → Prop} {W2 : Nat → List Nat} {l : Nat} (hF : PGF D m) (hf : f ≤ D.fc) (hR : PGR D σ τ) (hty : TYm D f N τ) (hcl : CLm D Gs f N τ) (hsc : SCm D f S0 S1 vs us sc cl τ) (hN : N < 100000) (hZ : MZ N G r hl hv H1 S τ) (hMH : MH N Sh τ) (hHK : HK N G r hl ∧ ∀ t, N ≤ t → hl t = []) (hg : gP G r) (hFB : FB1 B N G r (hC hl hv) f Rm) (hz : ∀ t, B ≤ t → rd τ 184 t = 0) (hIN : INTm D Gs f G r (hC hl hv) τ) (hBX : BXm D Gs f G r τ)
    (cv : ∀ v, D.tV f ≤ v → v < D.tV (f + 1) → cuN B (vM τ v)) (co : ∀ p, D.bP f ≤ p → p < D.bP (f + 1) → cuN B (oM τ p)) (cr : cuN B (rM τ f)) (cpn : ∀ q i, D.bP f ≤ q → q < D.bP (f + 1) → i < D.np Gs f q → cuN B (pnM D τ q i)) (hl9 : (puL D Gs f (D.bP (f + 1) - D.bP f)).length ≤ 9999) (hpt : FNP D f pt by') (har : ∀ j, D.bF f ≤ j → j < D.bF (f + 1) → G.1 (r (oM τ (pt j))) = 4)
    (hW2 : ∀ j, D.bF f ≤ j → j < D.bF (f + 1) → (W2 j).length ≤ 40) (hWc : ∀ j q, D.bF f ≤ j → j < D.bF (f + 1) → spn D (by' j) q → D.K q = 2 → D.vl q ∈ D.sl (pt j) → r (vM τ (D.vl q)) ∈ W2 j) (hM : H1 + 100 * (D.bF (f + 1) - D.bF f) < 250000) (hS : S + 8000 * (100 * (D.bF (f + 1) - D.bF f) + 1) < 2147483648) (hSh : Sh + 4001 * (100 * (D.bF (f + 1) - D.bF f) + 1) < 2147483648) (h5 : rd τ 123 5 = 0) (h139 : rd τ 139 f = i32 (l : Int)) (hlx : l < 3001) (d : Nat) (v2 v3 : Value) :
    ∃ (R : List Nat), R = nmK D Gs f r τ (D.bP (f + 1) - D.bP f) ∧
    ((60 < R.length ∧ ∃ τ' : tvS, rn L xs (d + 6) 348 51 [.ref 123, .int (i32 (f : Int)), v2, v3] [] τ = some (.inl none, τ') ∧ rd τ' 123 5 = 6 ∧ rd τ' 123 6 = rd τ 127 l ∧ frM FNM [5, 6, 87, 90] τ τ') ∨
     (R.length ≤ 60 ∧ ∃ (τ' : tvS) (hl' : Nat → List Nat) (hv' : Nat → Nat) (H' S' Sh' : Nat) (ow : Nat → Int) (w3 : Value), rn L xs (d + 6) 348 51 [.ref 123, .int (i32 (f : Int)), v2, v3] [] τ = rn L xs (d + 6) 348 149 [.ref 123, .int (i32 (f : Int)), .int 0, w3] [] τ' ∧ MZ N G r hl' hv' H' S' τ' ∧ MH N Sh' τ' ∧ (HK N G r hl' ∧ ∀ t, N ≤ t → hl' t = []) ∧ H1 ≤ H' ∧ H' ≤ H1 + 100 * (D.bF (f + 1) - D.bF f) ∧ S ≤ S' ∧ S' ≤ S + 8000 * (100 * (D.bF (f + 1) - D.bF f) + 1) ∧ Sh ≤ Sh' ∧ Sh' ≤ Sh + 4001 * (100 * (D.bF (f + 1) - D.bF f) + 1) ∧ hGe r (hC hl hv) (hC hl' hv') ∧ (∀ t v, r t = t → (LFm D Gs f G r (hC hl hv) pt by' τ t v ↔ hQ r (hC hl' hv') t v)) ∧ NUM B R τ' ∧ (∀ t, t < B → rd τ' 184 t = rd τ 184 t) ∧ ((∀ k, k < R.length → rd τ' 186 k = i32 (ow k)) ∧ rd τ' 123 94 = i32 ((S0 + 1 : Nat) : Int)) ∧
       (∀ q i k : Nat, D.bP f ≤ q → q < D.bP (f + 1) → i < D.np Gs f q → R[k]? = some (r (pnM D τ q i)) → TGT D f (fun p => RQ G r (hC hl' hv') (Bsm D f τ p) (pnM D τ q i) ∧ 2 ≤ G.1 (r (pnM D τ q i))) q (ow k) ∧ -1 ≤ ow k ∧ ow k < 4101) ∧ (∀ t, r t = t → 2 ≤ G.1 t → RQ G r (hC hl' hv') (FTm D f τ) t → B ≤ t) ∧ frX FRX [72, 73, 84, 87, 90, 94] [187, 188, 189] τ τ')) := by
  have hb4 := hF.1
  have hbl := (hF.le (D.fc + 1 - (f + 1)) (f + 1) (by omega))
  have hPf := hF.2.2 f hf
  have hlt := hPf.1.1
  have hI := hg.1
  obtain ⟨f1, f2, f3, f4, f5, f6, f7, _⟩ := hFB
  have hi1 := hZ.1.2.2.2.2.2.2
  have r0 : r 0 = 0 := (hi1 _).mp (by rw [hg.2.1 0 (by rw [(hi1 0).mpr rfl]; decide)]; exact (hi1 0).mpr rfl)
  have cuY : ∀ x, cuN B x → B ≤ r x ∨ r x = 0 := fun x h => h.elim (f4 x) (fun e => .inr (by rw [e]; exact r0))
  have hBp : ∀ q i, D.bP f ≤ q → q < D.bP (f + 1) → i < D.np Gs f q → B ≤ r (pnM D τ q i) := fun q i q1 q2 hi => by
    rcases cuY _ (cpn q i q1 q2 hi) with k | k
    · exact k
    · have := hBX q i q1 q2 hi
      rw [k, (hi1 0).mpr rfl] at this; omega
  obtain ⟨τ1, a1, a2, a3, a4, a5, a6⟩ := numberAll_m (L := L) (xs := xs) (G := G) hF hf hR hty hcl hBp hl9 hZ.1 hz (d + 2) jv jv jv
  obtain ⟨R, eR⟩ : ∃ R, R = nmK D Gs f r τ (D.bP (f + 1) - D.bP f) := ⟨_, rfl⟩
  rw [← eR] at a3 a6
  refine ⟨R, eR, ?_⟩
  have hN3 := a3
  obtain ⟨n1, n2, n3, n4, n5⟩ := a3
  have run : rn L xs (d + 6) 348 51 [.ref 123, .int (i32 (f : Int)), v2, v3] [] τ = cond (pv_c2 .le (i32 (R.length : Int)) 60) (rn L xs (d + 6) 348 83 [.ref 123, .int (i32 (f : Int)), (dj v2), (dj v3)] [] τ1) (cond (pv_in (i32 (f : Int)) 22) (cond (pv_in (rd τ1 139 f) 3002) (bV (rn L xs (d + 5) 291 0 [.ref 123, .int 6, .int (rd τ1 127 (ix (rd τ1 139 f)))] [] τ1) (fun s2 => some (.inl none, s2)) X0) none) none) := by
    rw [e348_51 (d + 5), bV_ok a1, n1, i32_ixn (by omega)]
  rw [show (60 : Int32) = i32 60 from rfl, c2_le (by omega) (by omega) (by omega) (by omega)] at run
  by_cases q : R.length ≤ 60
  · refine .inr ⟨q, ?_⟩
    have w1 : frX FRX [72, 73, 84, 87, 90, 94] [187, 188, 189] τ τ1 := (a4.X [187, 188, 189]).sub rfl rfl rfl
    have eo : oM τ1 = oM τ := by funext q; unfold oM; rw [a4.rd (j := 178) rfl]
    have ev : vM τ1 = vM τ := by funext q; unfold vM; rw [a4.rd (j := 179) rfl]
    have er : rM τ1 = rM τ := by funext q; unfold rM; rw [a4.rd (j := 180) rfl]
    have ec : cM τ1 = cM τ := by funext q i; unfold cM; rw [a4.rd (j := 182) rfl, a4.rd (j := 181) rfl]
    have ep : pnM D τ1 = pnM D τ := by funext q i; unfold pnM; rw [eo, ec]
    have eB : Bsm D f τ1 = Bsm D f τ := by funext p b; unfold Bsm; rw [eo, er, ev]
    have eF : FTm D f τ1 = FTm D f τ := by funext b; unfold FTm; rw [eo, er, ev]
    have ecp : cpM D pt by' τ1 = cpM D pt by' τ := by funext j u; unfold cpM; rw [ev]
    have hR1 : PGR D σ τ1 := hR.to (fun _ _ _ => rfl) (fun j hj i => a4.rd (inL_off (S := prM) (S' := 123 :: FNM) (by decide) j hj) i)
    have hty1 : TYm D f N τ1 := by
      unfold TYm
      rw [eo, ev, er, a4.rd (j := 180) rfl]
      exact ⟨fun p h1 h2 => by rw [a4.rd (j := 178) rfl]; exact hty.1 p h1 h2, fun p h1 h2 => by rw [a4.rd (j := 179) rfl]; exact hty.2.1 p h1 h2, hty.2.2⟩
    have hcl1 : CLm D Gs f N τ1 := fun p h1 h2 h3 h4 => by
      obtain ⟨k1, b1, b2, b3, b4, b5⟩ := hcl p h1 h2 h3 h4
      exact ⟨k1, by rw [a4.rd (j := 181) rfl]; exact b1, b2, fun i hi => by rw [ec, a4.rd (j := 182) rfl]; exact b3 i hi, by rw [a4.rd (j := 191) rfl]; exact b4, b5⟩
    have hsc1 : SCm D f S0 S1 vs us sc cl τ1 := by
      obtain ⟨b1, b2, b3, b4⟩ := hsc
      exact ⟨by rw [a4.rd (j := 202) rfl, a4.rd (j := 202) rfl]; exact b1, fun s h1 h2 => by rw [a4.rd (j := 149) rfl, a4.rd (j := 150) rfl]; exact b2 s h1 h2, b3, fun p h1 h2 => by rw [a4.rd (j := 160) rfl]; exact b4 p h1 h2⟩
    have hZ1 : MZ N G r hl hv H1 S τ1 := ⟨a2, hZ.2.1.fr a4 rfl ⟨rfl, rfl, rfl⟩, hZ.2.2.fr a4 rfl ⟨rfl, rfl⟩⟩
    have hMH1 : MH N Sh τ1 := hMH.fr a4 rfl rfl
    -- roots that are reached are the function's own
    obtain ⟨LF, eLF⟩ : ∃ LF, LF = LFm D Gs f G r (hC hl hv) pt by' τ := ⟨_, rfl⟩
    have lfY : ∀ t v, LF t v → G.1 t = 4 ∧ (B ≤ t → B ≤ v ∨ v = 0) := fun t v k => by
      rw [eLF] at k
      refine k (fun t v => G.1 t = 4 ∧ (B ≤ t → B ≤ v ∨ v = 0)) ⟨fun t v e k => ⟨?_, fun hB => ?_⟩, fun j v j1 j2 ⟨q, s, k1, k2, k3⟩ _ => ⟨har j j1 j2, fun _ => ?_⟩, fun j q i j1 j2 s hi _ _ => ⟨har j j1 j2, fun _ => cuY _ (cpn q i ?_ ?_ hi)⟩, fun j q i j1 j2 _ q1 q2 hi _ _ => ⟨har j j1 j2, fun _ => cuY _ (cpn q i q1 q2 hi)⟩⟩
      · obtain ⟨i, i1, _⟩ := k
        have hne : hl t ≠ [] := fun e => by rw [e] at i1; cases i1
        by_cases c : t < N
        · exact hHK.1 t c e hne
        · exact absurd (hHK.2 t (by omega)) hne
      · exact f7 t v (by rw [e]; exact hB) (by rw [e]; exact k)
      · obtain ⟨p1, p2, _⟩ := hpt j j1 j2
        have hin := PFf.inV hPf k2 p1 p2
        rw [k3]; exact cuY _ (cv _ hin.1 hin.2)
      · obtain ⟨_, _, _, g4, _⟩ := hR.fn hF hf hpt j1 j2
        have := s.1; omega
      · obtain ⟨p1, p2, _⟩ := hpt j j1 j2
        obtain ⟨_, _, _, g4, g5, g6, _⟩ := hR.fn hF hf hpt j1 j2
        have := s.2; omega
    have reY : ∀ t, RQ G r (fun t v => LF t (r v)) (FTm D f τ) t → B ≤ r t ∨ r t = 0 := fun t k => by
      refine k (fun t => B ≤ r t ∨ r t = 0) (fun x y e k => by rw [← e]; exact k) (fun x z k hk hzk => ?_) (fun x u k hu => ?_) (fun b hb => ?_)
      · have hx : B ≤ r x := by
          rcases k with k | k
          · exact k
          · rw [k, (hi1 0).mpr rfl] at hk; omega
        have := f5 (r x) hx hk
        unfold kids at hzk
        by_cases c3 : G.1 (r x) = 3
        · rw [if_pos c3] at hzk
          rw [List.mem_singleton.mp hzk]; exact cuY _ this.1
        · rw [if_neg c3] at hzk
          rcases List.mem_cons.mp hzk with e | e
          · rw [e]; exact cuY _ (this.2 c3)
          · rw [List.mem_singleton.mp e]; exact cuY _ this.1
      · obtain ⟨k1, k2⟩ := lfY _ _ hu
        rcases k with k | k
        · exact k2 k
        · rw [k, (hi1 0).mpr rfl] at k1; omega
      · rcases hb with ⟨p, h1, h2, h3⟩ | ⟨v, h1, h2, h3⟩ | h
        · rw [h3]; exact cuY _ (co p h1 h2)
        · rw [h3]; exact cuY _ (cv v h1 h2)
        · rw [h]; exact cuY _ cr
    have reB : ∀ t, r t = t → 2 ≤ G.1 t → RQ G r (fun t v => LF t (r v)) (FTm D f τ) t → B ≤ t := fun t h1 h2 k => by
      rcases reY t k with h | h
      · rw [h1] at h; exact h
      · rw [h1] at h
        rw [h, (hi1 0).mpr rfl] at h2; omega
    have hRr : ∀ x, x ∈ R → r x = x ∧ x < N := fun x hx => by
      rw [eR] at hx
      rcases (nmL_mem _ _).mp hx with h | ⟨y, h1, h2⟩
      · cases h
      · obtain ⟨e, he, e2⟩ := List.mem_map.mp h1
        rw [← h2]
        have hm := puL_mem _ e he
        have hlt : y < N := by
          rw [← e2]
          unfold pnM
          by_cases q1 : D.K e.1 = 4 ∨ D.K e.1 = 16 ∨ D.K e.1 = 17
          · rw [if_pos q1]; exact (hty.1 e.1 hm.1 (by omega)).2
          · have hnp := hm.2.2
            unfold pgD.np at hnp
            rw [if_neg q1] at hnp ⊢
            by_cases q3 : D.K e.1 = 3 ∧ D.vl e.1 < f
            · rw [if_pos q3] at hnp
              obtain ⟨k1, c1, c2, c3, c4, c5⟩ := hcl e.1 hm.1 (by omega) q3.1 q3.2
              have hcn : D.cn Gs e.1 = D.bk (D.vl e.1) + 1 + Gs.ng (D.vl e.1) := rfl
              exact (c3 _ (by omega)).2
            · rw [if_neg q3] at hnp; omega
        exact ⟨hI _, hZ.1.rlt hlt⟩
    have hRin : ∀ q i, D.bP f ≤ q → q < D.bP (f + 1) → i < D.np Gs f q → r (pnM D τ q i) ∈ R := fun q i q1 q2 hi => by
      rw [eR]
      refine (nmL_mem _ _).mpr (.inr ⟨_, List.mem_map.mpr ⟨(q, i), ?_, rfl⟩, rfl⟩)
      have h2 := puL_at (D := D) (Gs := Gs) (f := f) (q - D.bP f) i (by rw [show D.bP f + (q - D.bP f) = q by omega]; exact hi)
      rw [show D.bP f + (q - D.bP f) = q by omega] at h2
      have h3 := puL_pre (D.bP (f + 1) - (q + 1)) _ _ _ h2
      rw [show q - D.bP f + 1 + (D.bP (f + 1) - (q + 1)) = D.bP (f + 1) - D.bP f by omega] at h3
      exact List.mem_of_getElem? h3
    have hnR : ∀ k x : Nat, R[k]? = some x → ix (rd τ1 184 x) = k + 1 := fun k x hx => by
      have hkl : k < R.length := (List.getElem?_eq_some_iff.mp hx).1
      rw [(n3 k x hx).2.1, i32_ixn (by omega)]
    have hA := hdW.len (D := D) (f := f) (W1 := R) (W2 := W2) q hW2
    have eLF1 : LF = LFP D f G r (hC hl hv) (Bsm D f τ1) (D.np Gs f) (pnM D τ1) (fun j => oM τ1 (pt j)) by' (sfM D f by') (cpM D pt by' τ1) := by rw [eLF, eB, ep, ecp, eo]; rfl
    obtain ⟨τ2, S2, Sh2, NL2, hl2, hv2, ow, w3, z1, z2, z3, z4, z5, z6, z7, z8, z9, z10, z11⟩ := fix_m (L := L) (xs := xs) (τ0 := τ1) (R := R) (A := hdW f D R W2) (wd := wdN R.length) (nm := fun t => ix (rd τ1 184 t)) (M := 100 * (D.bF (f + 1) - D.bF f)) (C1 := 8000) (C2 := 4001) (Nat.le_refl _) (Nat.le_refl _) eLF1 hF hf hR1 hty1 hcl1 hsc1 hpt hN hI (by unfold INTm; rw [ep, eB]; exact hIN) (by unfold BXm; rw [ep]; exact hBX) q n5 (fun i x hx => ⟨(n3 i x hx).2.1, (n3 i x hx).1, (hRr x (List.mem_of_getElem? hx)).2, (hRr x (List.mem_of_getElem? hx)).1⟩) n1 (by rw [ep]; exact hRin) (fun k x hx => by
      have hx2 := List.mem_of_getElem? hx
      rw [eR] at hx2
      rcases (nmL_mem _ _).mp hx2 with h | ⟨y, h1, h2⟩
      · cases h
      · obtain ⟨e, he, e2⟩ := List.mem_map.mp h1
        have hm := puL_mem _ e he
        exact ⟨e.1, e.2, hm.1, by omega, hm.2.2, by rw [ep, e2]; exact h2⟩) (by unfold wdN; split <;> omega) (fun hne => by
      unfold wdN
      rw [if_neg (fun e => hne (List.length_eq_zero_iff.mp e))]) (a6 q) (fun t ht k h1 h2 => by
      rw [eF] at k
      have hB := reB t h1 h2 k
      by_cases c : t ∈ R
      · obtain ⟨i, hi⟩ := List.getElem?_of_mem c
        have hil : i < R.length := (List.getElem?_eq_some_iff.mp hi).1
        rw [hnR i t hi, (n3 i t hi).2.1]
        exact ⟨rfl, by omega⟩
      · rw [n4 t hB c]
        exact ⟨rfl, by decide⟩) hnR (fun k t h1 h2 k2 h3 => by
      rw [eF] at k2
      have hB := reB t h1 h2 k2
      by_cases c : t ∈ R
      · obtain ⟨i, hi⟩ := List.getElem?_of_mem c
        have := hnR i t hi
        rw [show k = i by omega]; exact hi
      · rw [n4 t hB c] at h3
        exact absurd h3 (by show ¬ (0 = k + 1); omega)) hA hM (fun j j1 j2 => ⟨by rw [eo], by rw [eo]; exact har j j1 j2⟩) (fun j q j1 j2 s k1 k2 => ⟨j1, j2, .inr (by rw [ev]; exact hWc j q j1 j2 s k1 k2)⟩) (fun j x j1 j2 hx => ⟨j1, j2, .inl hx⟩) d (100 * (D.bF (f + 1) - D.bF f)) S Sh τ1 [] hl hv (dj v3) (by omega) hS hSh ⟨hZ1, hMH1, List.nodup_nil, fun e he => (by cases he), hHK, frX.refl⟩ (fun _ _ _ k => k) (fun t v e k => by
        rw [eLF]
        exact (LFP.cls (D := D) (f := f) (G := G) (r := r) (h0 := hC hl hv) (Bs := Bsm D f τ) (np := D.np Gs f) (pn := pnM D τ) (ar := fun j => oM τ (pt j)) (by' := by') (sf := sfM D f by') (cap := cpM D pt by' τ) hI).1 t v e k)
    obtain ⟨y1, y2, y3, y4, y5, y6⟩ := z6
    have hlen := hA NL2 y3 (fun e he => (y4 e he).1)
    have hby : ∀ j q, D.bF f ≤ j → j < D.bF (f + 1) → spn D (by' j) q → D.bP f ≤ q ∧ q < D.bP (f + 1) := fun j q j1 j2 s => by
      obtain ⟨p1, p2, _⟩ := hpt j j1 j2
      obtain ⟨_, _, _, g4, g5, g6, _⟩ := hR.fn hF hf hpt j1 j2
      have := s.1; have := s.2; omega
    refine ⟨τ2, hl2, hv2, H1 + NL2.length, S2, Sh2, ow, w3, ?_, y1, y2, y5, by omega, by omega, z2, z3, z4, z5, z7, fun t v e => ⟨fun k => ?_, fun ⟨v', k1, k2⟩ => ?_⟩, ?_, fun t ht => by rw [y6.rd (j := 184) rfl]; exact a5 t ht, ⟨fun k hk => (z9.1 k hk).1, z9.2⟩, fun q i k q1 q2 hi hk => ?_, fun t h1 h2 k => reB t h1 h2 (k.le (h' := fun t v => LF t (r v)) hI (fun t v e k => ⟨v, z8 t v e k, rfl⟩)), w1.trans (y6.sub rfl rfl rfl)⟩
    · rw [run, c_t (by omega), e348_83]; exact z1
    · rw [← eLF, eLF1] at k
      exact lfp_m (τ0 := τ1) (nm := fun t => ix (rd τ1 184 t)) hI z7 (by unfold INTm; rw [ep, eB]; exact hIN) (by unfold BXm; rw [ep]; exact hBX) (by rw [ep]; exact hRin) hnR hby z10 (by rw [eo] at z11 ⊢; exact z11) t v k
    · have := z8 t v' e k1
      rw [← eLF]
      rw [k2] at this; exact this
    · exact ⟨by rw [y6.2.1 87 rfl]; exact n1, n2, fun i x hx => by rw [y6.rd (j := 185) rfl, y6.rd (j := 184) rfl]; exact n3 i x hx, fun t h1 h2 => by rw [y6.rd (j := 184) rfl]; exact n4 t h1 h2, n5⟩
    · have hall := OWk.all (τ0 := τ1) (Gs := Gs) (nm := fun t => ix (rd τ1 184 t)) hI z7 (by unfold INTm; rw [ep, eB]; exact hIN) (by unfold BXm; rw [ep]; exact hBX) hnR z10 q1 q2 hi (by rw [ep]; exact hk)
      rw [eB] at hall
      refine ⟨hall.1.congr (fun p p1 p2 => ⟨fun ⟨t, t1, t2, t3, t4⟩ => ?_, fun ⟨k1, k2⟩ => ⟨r (pnM D τ q i), hI _, k1.cl (hI _).symm, k2, hnR k _ hk⟩⟩), hall.2⟩
      have ft : RQ G r (fun t v => LF t (r v)) (FTm D f τ) t := (t2.le (h' := fun t v => LF t (r v)) hI (fun t v e k => ⟨v, z8 t v e k, rfl⟩)).mono (fun b kb => by
        rcases kb with k | ⟨v, k1, k2⟩ | k
        · exact .inl ⟨p, p1, p2, k⟩
        · have := PFf.inV hPf k1 p1 p2
          exact .inr (.inl ⟨v, this.1, this.2, k2⟩)
        · exact .inr (.inr k))
      have hB := reB t t1 t3 ft
      have h3 : ix (rd τ1 184 t) = k + 1 := t4
      have htR : t = r (pnM D τ q i) := by
        by_cases c : t ∈ R
        · obtain ⟨i', hi'⟩ := List.getElem?_of_mem c
          have := hnR i' t hi'
          rw [show i' = k by omega] at hi'
          exact Option.some.inj (hi'.symm.trans hk)
        · rw [n4 t hB c] at h3
          exact absurd h3 (by show ¬ (0 = k + 1); omega)
      exact ⟨by rw [htR] at t2; exact t2.cl (hI _), by rw [← htR]; exact t3⟩
  · refine .inl ⟨by omega, ?_⟩
    have e139 : rd τ1 139 f = i32 (l : Int) := by rw [a4.rd (j := 139) rfl]; exact h139
    have p291 : rn L xs (d + 5) 291 0 [.ref 123, .int 6, .int (rd τ 127 l)] [] τ1 = some (.inl none, wr (wr τ1 123 5 6) 123 6 (rd τ 127 l)) := by
      rw [e291_0 (d + 4), a4.2 5 rfl, h5, show pv_c1 .ne (0 : Int32) = false from rfl, cond_false, e291_17]
    refine ⟨wr (wr τ1 123 5 6) 123 6 (rd τ 127 l), ?_, ?_, ?_, ?_⟩
    · rw [run, c_f (by omega), c_in (by omega) (by omega) (by omega), e139, c_in (by omega) (by omega) (by omega), i32_ixn (by omega), a4.rd (j := 127) rfl, bV_ok p291]
    · rw [wr_nei (by decide), wr_self]
    · rw [wr_self]
    · exact (a4.sub rfl rfl).trans ((frM_w rfl).trans (frM_w rfl))
end REGM
