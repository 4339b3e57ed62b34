/-! REGIONS, THE MODEL: from the owners to the end -/
section TAILM
variable {L : Nat} {xs : Nat → Int32} {σ τ τ' : tvS} {D : pgD} {Gs : sgD} {m f N B H S Sh S0 S1 : Nat} {G : tG} {r : Nat → Nat} {hl : Nat → List Nat} {hv : Nat → Nat} {R : List Nat} {ow : Nat → Int} {vs us sc : Nat → Nat} {cl : Nat → List Nat} {pt by' : Nat → Nat}
theorem TYm.at (h : TYm D f N τ) (e : ∀ j, inL [178, 179, 180] j = true → ∀ i, rd τ' j i = rd τ j i) : TYm D f N τ' := by
  have eo : ∀ q, oM τ' q = oM τ q := fun q => by unfold oM; rw [e 178 rfl]
  have ev : ∀ q, vM τ' q = vM τ q := fun q => by unfold vM; rw [e 179 rfl]
  have er : ∀ q, rM τ' q = rM τ q := fun q => by unfold rM; rw [e 180 rfl]
  exact ⟨fun p h1 h2 => by rw [eo, e 178 rfl]; exact h.1 p h1 h2, fun p h1 h2 => by rw [ev, e 179 rfl]; exact h.2.1 p h1 h2, by rw [er, e 180 rfl]; exact h.2.2⟩
theorem SCm.at (h : SCm D f S0 S1 vs us sc cl τ) (e : ∀ j, inL [149, 150, 160, 202] j = true → ∀ i, rd τ' j i = rd τ j i) : SCm D f S0 S1 vs us sc cl τ' := by
  obtain ⟨b1, b2, b3, b4⟩ := h
  exact ⟨by rw [e 202 rfl, e 202 rfl]; exact b1, fun s h1 h2 => by rw [e 149 rfl, e 150 rfl]; exact b2 s h1 h2, b3, fun p h1 h2 => by rw [e 160 rfl]; exact b4 p h1 h2⟩
theorem CLm.at (h : CLm D Gs f N τ) (e : ∀ j, inL [181, 182, 191] j = true → ∀ i, rd τ' j i = rd τ j i) : CLm D Gs f N τ' := fun p h1 h2 h3 h4 => by
  have ec : ∀ q i, cM τ' q i = cM τ q i := fun q i => by unfold cM; rw [e 182 rfl, e 181 rfl]
  obtain ⟨k1, b1, b2, b3, b4, b5⟩ := h p h1 h2 h3 h4
  exact ⟨k1, by rw [e 181 rfl]; exact b1, b2, fun i hi => by rw [ec, e 182 rfl]; exact b3 i hi, by rw [e 191 rfl]; exact b4, b5⟩
theorem pnM.at (e : ∀ j, inL [178, 181, 182] j = true → ∀ i, rd τ' j i = rd τ j i) : pnM D τ' = pnM D τ := by
  funext q i
  unfold pnM oM cM
  rw [e 178 rfl, e 182 rfl, e 181 rfl]
theorem RQ.ltN {Bs : Nat → Prop} {t : Nat} (hT : TM N G r τ) (hq : MQt N G r hl hv) (hB : ∀ b, Bs b → b < N) (q : RQ G r (hC hl hv) Bs t) : t < N := by
  obtain ⟨q1, q2, q3, q4, q5⟩ := hq
  refine q (fun y => y < N) (fun x y e hx => ?_) (fun x z hx hk hz => q4 (r x) z (q3 x hx) (q2 x) hk (.inl hz)) (fun x u hx hu => q4 (r x) u (q3 x hx) (q2 x) (q5 x u hu) (.inr hu)) hB
  · by_cases c : y < N
    · exact c
    · have e1 := (hT.2.2.2.2.1 y (by omega)).1
      have e2 := q3 x hx
      have : r y < N := by rw [← e]; exact e2
      omega
theorem hprM_len (hH : HM N r hl hv H τ) : ∀ ML : List Nat, ML.Nodup → (∀ x, x ∈ ML → x < N ∧ r x = x) → (hpr G r hv hl ML).length ≤ H := by
  intro ML hd hm
  have key : (ML.flatMap hl).Nodup ∧ ∀ i, i ∈ ML.flatMap hl → i < H := by
    induction ML with
    | nil => exact ⟨List.nodup_nil, fun i hi => (by cases hi)⟩
    | cons t ML ih =>
      rw [List.nodup_cons] at hd
      obtain ⟨t1, t2⟩ := hm t List.mem_cons_self
      obtain ⟨b1, b2, b3⟩ := hH.2.2.2.1 t t1 t2
      obtain ⟨i1, i2⟩ := ih hd.2 (fun x hx => hm x (List.mem_cons_of_mem _ hx))
      rw [List.flatMap_cons]
      refine ⟨List.nodup_append.mpr ⟨b2, i1, fun a ha b hb e => ?_⟩, fun i hi => ?_⟩
      · obtain ⟨s, s1, s2⟩ := List.mem_flatMap.mp hb
        obtain ⟨m1, m2⟩ := hm s (List.mem_cons_of_mem _ s1)
        rw [e] at ha
        have := hH.2.2.2.2 t s b t1 m1 t2 m2 ha s2
        rw [this] at hd
        exact hd.1 s1
      · rcases List.mem_append.mp hi with h | h
        · exact b3 i h
        · exact i2 i h
  have h1 := nodup_lt key.1 key.2
  have h2 : (hpr G r hv hl ML).length ≤ (ML.flatMap hl).length := by
    unfold hpr
    clear hd hm key h1
    induction ML with
    | nil => exact Nat.le_refl _
    | cons t ML ih =>
      rw [List.flatMap_cons, List.flatMap_cons, List.length_append, List.length_append, List.length_map]
      have := hbx_len (C := G) (c := r) (hv := hv) (hl t) []
      omega
  omega
def FTM : List Nat := [169, 171, 176, 183, 190, 191, 192, 193, 194, 195, 196, 197, 198, 199, 200, 201]
/-- what the model has in the end of a function's regions -/
def RGEm (D : pgD) (Gs : sgD) (f : Nat) (r : Nat → Nat) (R : List Nat) (ow : Nat → Int) (pt by' : Nat → Nat) (cf0 kf0 cf kf : Nat) (gf gk : Nat → Nat) (nb : Nat) (τ τ' : tvS) : Prop :=
  KNM f R ow R.length τ' ∧ rd τ' 190 f = i32 (R.length : Int) ∧ rd τ' 195 f = i32 (nb : Int) ∧ (∀ g, g ≠ f → rd τ' 195 g = rd τ 195 g) ∧ oth f τ τ' ∧ (rd τ' 123 103 = i32 (cf : Int) ∧ rd τ' 123 107 = i32 (kf : Int) ∧ cf0 ≤ cf ∧ kf0 ≤ kf ∧ cf ≤ cf0 + 40 * fnN D f (D.bP (f + 1) - D.bP f) ∧ kf ≤ kf0 + 60 * fnN D f (D.bP (f + 1) - D.bP f)) ∧ (∀ i, i < cf0 → rd τ' 198 i = rd τ 198 i) ∧ (∀ i, i < kf0 → rd τ' 201 i = rd τ 201 i) ∧
  (∀ q, (∀ j, D.bF f ≤ j → j < D.bF (f + 1) → q ≠ pt j) → rd τ' 196 q = rd τ 196 q ∧ rd τ' 197 q = rd τ 197 q ∧ rd τ' 199 q = rd τ 199 q ∧ rd τ' 200 q = rd τ 200 q) ∧
  (∀ j, D.bF f ≤ j → j < D.bF (f + 1) → KPF (pt j) (gf j) (gk j) (cgF D (pt j) (D.st (by' j)) (by' j + 1 - D.st (by' j))) (nfil (mkM D Gs f r R ow τ (by' j)) R.length) τ' ∧ gf j + (cgF D (pt j) (D.st (by' j)) (by' j + 1 - D.st (by' j))).length ≤ cf ∧ gk j + (nfil (mkM D Gs f r R ow τ (by' j)) R.length).length ≤ kf) ∧ frX FTM [72, 84, 103, 107, 110, 111] [] τ τ'
theorem rtail_m {cf0 kf0 lx : Nat} {lv : Nat → Nat} (hF : PGF D m) (hf : f ≤ D.fc) (hR : PGR D σ τ) (hty : TYm D f N τ) (hcl : CLm D Gs f N τ) (hsc : SCm D f S0 S1 vs us sc cl τ) (hR60 : R.length ≤ 60) (hnum : NUM B R τ) (hRN : ∀ x, x ∈ R → x < N) (h94 : rd τ 123 94 = i32 ((S0 + 1 : Nat) : Int)) (hin : ∀ q i, D.bP f ≤ q → q < D.bP (f + 1) → i < D.np Gs f q → r (pnM D τ q i) ∈ R) (how : ∀ k, k < R.length → rd τ 186 k = i32 (ow k) ∧ -1 ≤ ow k ∧ ow k < 4101)
    (hN : N < 100000) (hI : ∀ x, r (r x) = r x) (hZ : MZ N G r hl hv H S τ) (hMH : MH N Sh τ) (hHK : HK N G r hl ∧ ∀ t, N ≤ t → hl t = []) (hBt : ∀ t, r t = t → 2 ≤ G.1 t → RQ G r (hC hl hv) (FTm D f τ) t → B ≤ t) (hlv : ∀ v, v < D.tV (D.fc + 1) → rd τ 146 v = i32 (lv v : Int) ∧ lv v < m) (hpt : FNP D f pt by') (hC40 : ∀ j k, D.bF f ≤ j → j < D.bF (f + 1) → k ≤ by' j + 1 - D.st (by' j) → (cgF D (pt j) (D.st (by' j)) k).length ≤ 40)
    (hcf : cf0 + 40 * fnN D f (D.bP (f + 1) - D.bP f) + 41 < 30000) (hkf : kf0 + 60 * fnN D f (D.bP (f + 1) - D.bP f) + 61 < 40000) (h103 : rd τ 123 103 = i32 (cf0 : Int)) (h107 : rd τ 123 107 = i32 (kf0 : Int)) (h5 : rd τ 123 5 = 0) (h139 : rd τ 139 f = i32 (lx : Int)) (hlx : lx < 3001) (hS : S + (D.bP (f + 1) - D.bP f) + (D.tV (f + 1) - D.tV f) + 1 < 2147483648) (hSh : Sh + N < 2147483648) (d : Nat) (v2 v3 : Value) :
    ∃ (pl : Int32) (DL : List Nat), pl = wfo (fun q => gbN G r (hC hl hv) (vM τ q)) (fun q => rd τ 127 (lv q)) (D.tV (f + 1) - D.tV f) (D.tV f) (wfo (fun q => gbN G r (hC hl hv) (oM τ q)) (fun q => rd τ 127 (D.lx q)) (D.bP (f + 1) - D.bP f) (D.bP f) (i32 (-1))) ∧ DL.Nodup ∧ (∀ t, t ∈ DL ↔ r t = t ∧ RQ G r (hC hl hv) (SGb D f (vM τ) (rM τ f)) t) ∧
    ((∃ τ' : tvS, rn L xs (d + 6) 348 149 [.ref 123, .int (i32 (f : Int)), v2, v3] [] τ = some (.inl none, τ') ∧ rd τ' 123 5 = 6 ∧ ((pl ≠ i32 (-1) ∧ rd τ' 123 6 = pl) ∨ (pl = i32 (-1) ∧ (24 < (bxs G DL).length ∨ 40 < unk G DL ∨ 100 < (hpr G r hv hl DL).length) ∧ rd τ' 123 6 = rd τ 127 lx))) ∨
     (pl = i32 (-1) ∧ ¬ (24 < (bxs G DL).length ∨ 40 < unk G DL ∨ 100 < (hpr G r hv hl DL).length) ∧ ∃ (τ' : tvS) (Sh' cf kf : Nat) (gf gk : Nat → Nat), rn L xs (d + 6) 348 149 [.ref 123, .int (i32 (f : Int)), v2, v3] [] τ = some (.inl none, τ') ∧ MZ N G r hl hv H (S + (D.bP (f + 1) - D.bP f) + (D.tV (f + 1) - D.tV f) + 1) τ' ∧ MH N Sh' τ' ∧ Sh ≤ Sh' ∧ Sh' ≤ Sh + N ∧ RGEm D Gs f r R ow pt by' cf0 kf0 cf kf gf gk (bxs G DL).length τ τ')) := by
  have hb4 := hF.1
  have hbl := (hF.le (D.fc + 1 - (f + 1)) (f + 1) (by omega))
  have hq := hZ.Qt hN hI hHK
  obtain ⟨n1, n2, n3, n4, n5⟩ := id hnum
  have hFN : ∀ b, FTm D f τ b → b < N := fun b hb => by
    rcases hb with ⟨p, p1, p2, e⟩ | ⟨v, p1, p2, e⟩ | e
    · rw [e]; exact (hty.1 p p1 p2).2
    · rw [e]; exact (hty.2.1 v p1 p2).2
    · rw [e]; exact hty.2.2.2
  have hnm : ∀ t, t < N → r t = t → 2 ≤ G.1 t → RQ G r (hC hl hv) (FTm D f τ) t → ∃ k : Nat, rd τ 184 t = i32 (k : Int) ∧ k ≤ 60 := fun t ht hr hk hx => by
    by_cases c : t ∈ R
    · obtain ⟨i, i1, i2⟩ := List.mem_iff_getElem.mp c
      exact ⟨i + 1, (n3 i t (by rw [List.getElem?_eq_getElem i1, i2])).2.1, by omega⟩
    · exact ⟨0, n4 t (hBt t hr hk hx) c, by omega⟩
  obtain ⟨s1, a1, a2, a3⟩ := least_m (L := L) (xs := xs) hF hf hR hty hq hnm lv hlv (by omega) hZ d jv jv jv
  obtain ⟨pl, epl⟩ : ∃ pl, pl = wfo (fun q => gbN G r (hC hl hv) (vM τ q)) (fun q => rd τ 127 (lv q)) (D.tV (f + 1) - D.tV f) (D.tV f) (wfo (fun q => gbN G r (hC hl hv) (oM τ q)) (fun q => rd τ 127 (D.lx q)) (D.bP (f + 1) - D.bP f) (D.bP f) (i32 (-1))) := ⟨_, rfl⟩
  rw [← epl] at a1
  have hR1 : PGR D σ s1 := hR.to (fun _ _ _ => rfl) (fun j hj i => a3.rd (inL_off (S := prM) (S' := [123, 169, 171, 176]) (by decide) j hj) i)
  have off : ∀ (A S' : List Nat) (j : Nat), (A.all fun j => !inL S' j) = true → inL A j = true → inL S' j = false := fun A S' j h hj => inL_off h j hj
  have hty1 : TYm D f N s1 := hty.at (fun j hj i => a3.rd (off _ [123, 169, 171, 176] j (by decide) hj) i)
  have hMH1 : MH N Sh s1 := ⟨by rw [a3.2.1 84 rfl]; exact hMH.1, fun x hx => by rw [a3.rd (j := 183) rfl]; exact hMH.2 x hx⟩
  obtain ⟨s2, DL, Sh', b1, b2, b3, b4, b5, b6, b7, b8, b9, b10⟩ := signs_m (L := L) (xs := xs) hF hf hR1 hty1 a2 hq hMH1 hHK.1 (by omega) hSh (d + 1) jv jv
  have ev1 : vM s1 = vM τ := by funext q; unfold vM; rw [a3.rd (j := 179) rfl]
  have er1 : rM s1 f = rM τ f := by unfold rM; rw [a3.rd (j := 180) rfl]
  rw [ev1, er1] at b8
  have w2 : frX FTM [72, 84, 103, 107, 110, 111] [] τ s2 := (a3.sub rfl rfl rfl).trans ((b9.X []).sub rfl rfl rfl)
  refine ⟨pl, DL, epl, b7, b8, ?_⟩
  have hDN : ∀ x, x ∈ DL → x < N ∧ r x = x := fun x hx => by
    obtain ⟨k1, k2⟩ := (b8 x).mp hx
    refine ⟨k2.ltN hZ.1 hq (fun b hb => ?_), k1⟩
    rcases hb with e | ⟨k, k1, e⟩
    · rw [e]; exact hty.2.2.2
    · rw [e]; exact (hty.2.1 _ (by omega) (by have := (hF.2.2 f hf).1.2.1; omega)).2
  have l1 : DL.length ≤ N := nodup_lt b7 (fun x hx => (hDN x hx).1)
  have l2 : (bxs G DL).length ≤ DL.length := List.length_filter_le _ _
  have l3 : unk G DL ≤ DL.length := List.length_filter_le _ _
  have l4 := hprM_len (G := G) hZ.2.1 DL b7 hDN
  have l5 := hZ.2.1.2.1
  have h5' : rd s2 123 5 = 0 := by rw [w2.2.1 5 rfl]; exact h5
  obtain ⟨g1, g2, g3⟩ := b6
  have run : rn L xs (d + 6) 348 149 [.ref 123, .int (i32 (f : Int)), v2, v3] [] τ = cond (pv_c2 .eq pl (i32 (-1))) (rn L xs (d + 6) 348 175 [.ref 123, .int (i32 (f : Int)), (dj (jk (dj v2))), .int pl] [] s2) (bV (rn L xs (d + 5) 291 0 [.ref 123, .int 6, .int pl] [] s2) (fun s4 => rn L xs (d + 6) 348 221 [.ref 123, .int (i32 (f : Int)), (dj (dj (jk (dj v2)))), .int pl] [] s4) X0) := by
    rw [e348_149 (d + 5), bI_ok a1, bV_ok b1, i32_raw]
  have done : ∀ (s : tvS) (y : Int32) (w1 w2 : Value), rd s 123 5 = 0 → (bV (rn L xs (d + 5) 291 0 [.ref 123, .int 6, .int y] [] s) (fun s4 => rn L xs (d + 6) 348 221 [.ref 123, .int (i32 (f : Int)), w1, w2] [] s4) X0) = some (.inl none, wr (wr s 123 5 6) 123 6 y) := fun s y w1 w2 h => by
    have mf : rn L xs (d + 5) 291 0 [.ref 123, .int 6, .int y] [] s = some (.inl none, wr (wr s 123 5 6) 123 6 y) := by
      rw [e291_0, h, show pv_c1 .ne (0 : Int32) = false from rfl, cond_false, e291_17]
    rw [bV_ok mf, e348_221, wr_nei (by decide), wr_self, show pv_c1 .ne (6 : Int32) = true from rfl, cond_true, e348_233]
  by_cases hp : pl = i32 (-1)
  · have r175 : rn L xs (d + 6) 348 149 [.ref 123, .int (i32 (f : Int)), v2, v3] [] τ = cond (decide (((bxs G DL).length : Int) > 24)) (rn L xs (d + 6) 348 204 [.ref 123, .int (i32 (f : Int)), (dj (jk (dj v2))), .int pl] [] s2) (cond (decide ((unk G DL : Int) > 40)) (rn L xs (d + 6) 348 204 [.ref 123, .int (i32 (f : Int)), (dj (jk (dj v2))), .int pl] [] s2) (cond (decide (((hpr G r hv hl DL).length : Int) ≤ 100)) (rn L xs (d + 6) 348 221 [.ref 123, .int (i32 (f : Int)), (dj (jk (dj v2))), .int pl] [] s2) (rn L xs (d + 6) 348 204 [.ref 123, .int (i32 (f : Int)), (dj (jk (dj v2))), .int pl] [] s2))) := by
      rw [run, hp, c2_refl, e348_175, c_in (by omega) (by omega) (by omega), i32_ixn (by omega), g1, g2, g3, show (24 : Int32) = i32 24 from rfl, show (40 : Int32) = i32 40 from rfl, show (100 : Int32) = i32 100 from rfl, c2_gt (by omega) (by omega) (by omega) (by omega), c2_gt (by omega) (by omega) (by omega) (by omega), c2_le (by omega) (by omega) (by omega) (by omega)]
    have r204 : rn L xs (d + 6) 348 204 [.ref 123, .int (i32 (f : Int)), (dj (jk (dj v2))), .int pl] [] s2 = some (.inl none, wr (wr s2 123 5 6) 123 6 (rd τ 127 lx)) := by
      rw [e348_204, c_in (by omega) (by omega) (by omega), i32_ixn (by omega), w2.rd (j := 139) rfl, h139, c_in (by omega) (by omega) (by omega), i32_ixn (by omega), done _ _ _ _ h5', w2.rd (j := 127) rfl]
    by_cases hg : 24 < (bxs G DL).length ∨ 40 < unk G DL ∨ 100 < (hpr G r hv hl DL).length
    · refine .inl ⟨wr (wr s2 123 5 6) 123 6 (rd τ 127 lx), ?_, by rw [wr_nei (by decide), wr_self], .inr ⟨hp, hg, wr_self _ _ _ _⟩⟩
      rw [r175, r204]
      by_cases q1 : ((bxs G DL).length : Int) > 24
      · rw [decide_eq_true q1, cond_true]
      · by_cases q2 : (unk G DL : Int) > 40
        · rw [decide_eq_false q1, cond_false, decide_eq_true q2, cond_true]
        · rw [decide_eq_false q1, cond_false, decide_eq_false q2, cond_false, decide_eq_false (by omega), cond_false]
    · refine .inr ⟨hp, hg, ?_⟩
      have e2 : ∀ j, inL (123 :: FTM) j = false → ∀ i, rd s2 j i = rd τ j i := fun j hj i => w2.rd hj i
      have e12 : ∀ j, inL [123, 169, 171, 176, 183, 195] j = false → ∀ i, rd s2 j i = rd τ j i := fun j hj i => ((a3.sub rfl rfl rfl : frX FSG [72, 84, 110, 111] [] τ s1).trans (b9.X [])).rd hj i
      obtain ⟨s3, t1, cf, kf, gf, gk, c1, c2, c3, c4, c5, c6, c7, c8, c9⟩ := keepReg_m (L := L) (xs := xs) (G := G) (τ := s2) (σ := σ) (Gs := Gs) (R := R) (ow := ow) (cf0 := cf0) (kf0 := kf0) hF hf (hR.to (fun _ _ _ => rfl) (fun j hj i => e2 j (inL_off (S := prM) (by decide) j hj) i)) (hty.at (fun j hj i => e2 j (off _ _ j (by decide) hj) i)) (hcl.at (fun j hj i => e12 j (off _ _ j (by decide) hj) i)) (hsc.at (fun j hj i => e2 j (off _ _ j (by decide) hj) i)) hR60 (fun i x hx => ⟨by rw [e2 184 rfl]; exact (n3 i x hx).2.1, by rw [e2 185 rfl]; exact (n3 i x hx).1, hRN x (List.mem_of_getElem? hx)⟩) (by rw [w2.2.1 87 rfl]; exact n1) (by rw [w2.2.1 94 rfl]; exact h94) (by rw [pnM.at (τ := τ) (fun j hj i => e2 j (off _ _ j (by decide) hj) i)]; exact hin) (fun k hk => by
        rw [e2 186 rfl]
        obtain ⟨k1, k2, k3⟩ := how k hk
        exact ⟨k1, by omega, k3⟩) b2.1 hpt hC40 hcf hkf (by rw [b9.2 103 rfl, a3.2.1 103 rfl]; exact h103) (by rw [b9.2 107 rfl, a3.2.1 107 rfl]; exact h107) (d + 1) jv
      have w3 : frX FTM [72, 84, 103, 107, 110, 111] [] τ t1 := w2.trans ((c6.X []).sub rfl rfl rfl)
      have w4 : frX FTM [72, 84, 103, 107, 110, 111] [] τ s3 := w3.trans ((c5.1.X []).sub rfl rfl rfl)
      obtain ⟨k1, k2, k3, k4, k5, k6⟩ := id c5
      have ep : pnM D t1 = pnM D τ := pnM.at (fun j hj i => w3.rd (off _ (123 :: FTM) j (by decide) hj) i)
      have emk : ∀ e, mkM D Gs f r R ow t1 e = mkM D Gs f r R ow τ e := fun e => by
        funext k
        unfold mkM mkq
        rw [ep]
      have et : ∀ j, inL [123, 169, 171, 176, 183, 190, 191, 192, 193, 194, 195] j = false → ∀ i, rd t1 j i = rd τ j i := fun j hj i => ((a3.sub rfl rfl rfl : frX [169, 171, 176, 183, 190, 191, 192, 193, 194, 195] [72, 84, 110, 111] [] τ s1).trans (((b9.X []).sub rfl rfl rfl).trans ((c6.X []).sub rfl rfl rfl))).rd hj i
      refine ⟨s3, Sh', cf, kf, gf, gk, ?_, ⟨c2, ?_, ?_⟩, ?_, b4, b5, ?_⟩
      · rw [r175, decide_eq_false (by omega), cond_false, decide_eq_false (by omega), cond_false, decide_eq_true (by omega), cond_true, e348_221 (d + 5), h5', show pv_c1 .ne (0 : Int32) = false from rfl, cond_false, bV_ok c1, e348_233]
      · exact (b2.2.1.fr c6 rfl ⟨rfl, rfl, rfl⟩).fr k1 rfl ⟨rfl, rfl, rfl⟩
      · exact (b2.2.2.fr c6 rfl ⟨rfl, rfl⟩).fr k1 rfl ⟨rfl, rfl⟩
      · exact (b3.fr c6 rfl rfl).fr k1 rfl rfl
      · refine ⟨⟨by rw [k1.rd (j := 191) rfl]; exact c8.1, fun i hi => by rw [k1.rd (j := 192) rfl]; exact c8.2.1 i hi, fun i x hi hx => by rw [k1.rd (j := 193) rfl, k1.rd (j := 194) rfl]; exact c8.2.2 i x hi hx⟩, by rw [k1.rd (j := 190) rfl]; exact c9, by rw [k1.rd (j := 195) rfl, c6.rd (j := 195) rfl]; exact g1, fun g hg => by rw [k1.rd (j := 195) rfl, c6.rd (j := 195) rfl, b10 g hg, a3.rd (j := 195) rfl], ?_, ⟨k2.1, k2.2.1, k2.2.2.1, k2.2.2.2, c3, c4⟩, fun i hi => by rw [k3 i hi, et 198 rfl], fun i hi => by rw [k4 i hi, et 201 rfl], fun q hq => ?_, fun j j1 j2 => ?_, w4⟩
        · have o1 : oth f τ s2 := ⟨fun g hg => ⟨e12 190 rfl g, e12 191 rfl g⟩, fun g i hg hi => ⟨e12 192 rfl _, e12 193 rfl _, e12 194 rfl _⟩⟩
          have o2 : oth f t1 s3 := ⟨fun g hg => ⟨k1.rd (j := 190) rfl g, k1.rd (j := 191) rfl g⟩, fun g i hg hi => ⟨k1.rd (j := 192) rfl _, k1.rd (j := 193) rfl _, k1.rd (j := 194) rfl _⟩⟩
          exact o1.trans (c7.trans o2)
        · rw [← et 196 rfl, ← et 197 rfl, ← et 199 rfl, ← et 200 rfl]; exact k5 q hq
        · have := k6 j j1 j2 (hpt j j1 j2).2.1
          rw [emk] at this
          exact this
  · have hne : pv_c2 .eq pl (i32 (-1)) = false := decide_eq_false hp
    exact .inl ⟨wr (wr s2 123 5 6) 123 6 pl, by rw [run, hne, cond_false, done s2 pl _ _ h5'], by rw [wr_nei (by decide), wr_self], .inl ⟨hp, wr_self _ _ _ _⟩⟩
end TAILM
