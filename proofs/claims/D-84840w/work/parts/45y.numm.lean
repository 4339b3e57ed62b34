/-! REGIONS, THE MODEL: all puts are numbered -/
section NUMALL
variable {L : Nat} {xs : Nat → Int32} {σ σ' τ τ0 σ0 : tvS} {D : pgD} {Gs : sgD} {m f : Nat}
variable {N B : Nat} {G : tG} {r : Nat → Nat}
/-- numbers of the first k parts' puts -/
def nmK (D : pgD) (Gs : sgD) (f : Nat) (r : Nat → Nat) (τ0 : tvS) (k : Nat) : List Nat := nmL r ((puL D Gs f k).map (fun e => pnM D τ0 e.1 e.2)) []
theorem nmL_app {l l' R : List Nat} : nmL r (l ++ l') R = nmL r l' (nmL r l R) := by unfold nmL; rw [List.foldl_append]
theorem nmK_len {k : Nat} (hl : (puL D Gs f k).length ≤ 9999) : (nmK D Gs f r τ0 k).length ≤ 9999 := by
  have := (nmL_len (r := r) ((puL D Gs f k).map (fun e => pnM D τ0 e.1 e.2)) []).2
  rw [List.length_map] at this
  unfold nmK
  have e : ([] : List Nat).length = 0 := rfl
  omega
def FNM : List Nat := [169, 184, 185]
def NLI (D : pgD) (Gs : sgD) (f N B : Nat) (G : tG) (r : Nat → Nat) (R : List Nat) (τ0 τ : tvS) : Prop := TM N G r τ ∧ NUM B R τ ∧ frM FNM [87] τ0 τ ∧ ∀ t, t < B → rd τ 184 t = rd τ0 184 t
/-- what is handed to a call -/
theorem nm_call {p : Nat} (hF : PGF D m) (hf : f ≤ D.fc) (hR : PGR D σ0 τ0) (hcl : CLm D Gs f N τ0) (hB : ∀ q i, D.bP f ≤ q → q < D.bP (f + 1) → i < D.np Gs f q → B ≤ r (pnM D τ0 q i)) (hp1 : D.bP f ≤ p) (hp2 : p < D.bP (f + 1)) (h3 : D.K p = 3) (hvl : D.vl p < f) (d : Nat) : ∀ (j k : Nat) (R : List Nat) (τ : tvS), k + j = Gs.ng (D.vl p) → R.length + j ≤ 9999 → NLI D Gs f N B G r R τ0 τ →
    ∃ (τ' : tvS) (w3 w4 : Value), rn L xs (d + 3) 349 72 [.ref 123, .int (i32 (f : Int)), .int (i32 (p : Int)), .int (i32 (D.vl p : Int)), .int (i32 (k : Int))] [] τ = rn L xs (d + 3) 349 116 [.ref 123, .int (i32 (f : Int)), .int (i32 (p : Int)), w3, w4] [] τ' ∧ NLI D Gs f N B G r (nmL r ((List.range j).map (fun i => pnM D τ0 p (k + i))) R) τ0 τ' := by
  have hb4 := hF.1
  have hbl := (hF.le (D.fc + 1 - (f + 1)) (f + 1) (by omega))
  obtain ⟨n1, c1, c2, c3, c4, c5⟩ := hcl p hp1 hp2 h3 hvl
  have hcn : D.cn Gs p = D.bk (D.vl p) + 1 + Gs.ng (D.vl p) := rfl
  have hkk := (hF.2.2 (D.vl p) (by omega)).1.2.2.2
  have e140 := (hR.1 (D.vl p) (by omega)).2.1.1
  have hnp : D.np Gs f p = Gs.ng (D.vl p) := by unfold pgD.np; rw [if_neg (by omega), if_pos ⟨h3, hvl⟩]
  have hpn : ∀ i, pnM D τ0 p i = cM τ0 p (D.bk (D.vl p) + 1 + i) := fun i => by unfold pnM; rw [if_neg (by omega)]
  intro j
  induction j with
  | zero =>
    intro k R τ e hl hI
    refine ⟨τ, .int (i32 (D.vl p : Int)), .int (i32 (k : Int)), ?_, hI⟩
    rw [e349_72 (d + 2), c_in (by omega) (by omega) (by omega), i32_ixn (by omega), hI.2.2.1.rd (j := 191) rfl, c4, c2_ge (by omega) (by omega) (by omega) (by omega), c_t (by omega)]
  | succ j ih =>
    intro k R τ e hl hI
    obtain ⟨i1, i2, i3, i4⟩ := id hI
    obtain ⟨d1, d2⟩ := c3 (D.bk (D.vl p) + 1 + k) (by omega)
    have t2 : pnM D τ0 p k < N := by rw [hpn]; exact d2
    have ei : i32 (n1 : Int) + i32 (D.bk (D.vl p) : Int) + 1 + i32 (k : Int) = i32 ((n1 + (D.bk (D.vl p) + 1 + k) : Nat) : Int) := by
      rw [show (1 : Int32) = i32 1 from rfl, i32_add, i32_add, i32_add]; congr 1; omega
    have hval : rd τ 182 (n1 + (D.bk (D.vl p) + 1 + k)) = i32 (pnM D τ0 p k : Int) := by rw [i3.rd (j := 182) rfl, d1, hpn]
    obtain ⟨s1, a1, a2, a3, a4, a5⟩ := num_m (L := L) (xs := xs) i1 i1.2.2.1 t2 (hB p k hp1 hp2 (by omega)) i2 (by omega) d jv
    have hl1 := numA_len (R := R) (x := r (pnM D τ0 p k))
    obtain ⟨τ', w3, w4, z1, z2⟩ := ih (k + 1) (numA R (r (pnM D τ0 p k))) s1 (by omega) (by omega) ⟨a2, a3, i3.trans (a4.sub rfl rfl), fun t ht => (a5 t ht).trans (i4 t ht)⟩
    refine ⟨τ', w3, w4, ?_, ?_⟩
    · rw [e349_72 (d + 2), c_in (by omega) (by omega) (by omega), i32_ixn (by omega), i3.rd (j := 191) rfl, c4, c2_ge (by omega) (by omega) (by omega) (by omega), c_f (by omega), c_in (by omega) (by omega) (by omega), c_in (by omega) (by omega) (by omega), i32_ixn (by omega), i3.rd (j := 181) rfl, i3.rd (j := 140) rfl, c1, e140, ei, c_in (by omega) (by omega) (by omega), i32_ixn (by omega), hval, bV_ok a1, i32_up]
      exact z1
    · have e2 : nmL r ((List.range (j + 1)).map (fun i => pnM D τ0 p (k + i))) R = nmL r ((List.range j).map (fun i => pnM D τ0 p (k + 1 + i))) (numA R (r (pnM D τ0 p k))) := by
        rw [List.range_succ_eq_map, List.map_cons, List.map_map]
        show nmL r (List.map ((fun i => pnM D τ0 p (k + i)) ∘ Nat.succ) (List.range j)) (numA R (r (pnM D τ0 p (k + 0)))) = _
        rw [Nat.add_zero]
        congr 1
        apply List.map_congr_left
        intro i _
        show pnM D τ0 p (k + (i + 1)) = pnM D τ0 p (k + 1 + i)
        congr 1; omega
      rw [e2]; exact z2
theorem nm_loop (hF : PGF D m) (hf : f ≤ D.fc) (hR : PGR D σ0 τ0) (hty : TYm D f N τ0) (hcl : CLm D Gs f N τ0) (hB : ∀ q i, D.bP f ≤ q → q < D.bP (f + 1) → i < D.np Gs f q → B ≤ r (pnM D τ0 q i)) (hl : (puL D Gs f (D.bP (f + 1) - D.bP f)).length ≤ 9999) (d : Nat) : ∀ (j k : Nat) (τ : tvS) (v3 v4 : Value), D.bP f + k + j = D.bP (f + 1) → NLI D Gs f N B G r (nmK D Gs f r τ0 k) τ0 τ →
    ∃ (τ' : tvS) (w2 w3 w4 : Value), rn L xs (d + 3) 349 12 [.ref 123, .int (i32 (f : Int)), .int (i32 ((D.bP f + k : Nat) : Int)), v3, v4] [] τ = rn L xs (d + 3) 349 122 [.ref 123, .int (i32 (f : Int)), w2, w3, w4] [] τ' ∧ NLI D Gs f N B G r (nmK D Gs f r τ0 (D.bP (f + 1) - D.bP f)) τ0 τ' := by
  have hb4 := hF.1
  have hbl := (hF.le (D.fc + 1 - (f + 1)) (f + 1) (by omega))
  have hPf := hF.2.2 f hf
  have hff := hR.1 f hf
  intro j
  induction j with
  | zero =>
    intro k τ v3 v4 e hI
    refine ⟨τ, .int (i32 ((D.bP f + k : Nat) : Int)), v3, v4, ?_, by rw [show D.bP (f + 1) - D.bP f = k by omega]; exact hI⟩
    rw [e349_12 (d + 2), i32_up, c_in (by omega) (by omega) (by omega), i32_ixn (by omega), hI.2.2.1.rd (j := 143) rfl, hff.2.1.2.2.2.2.1, c2_ge (by omega) (by omega) (by omega) (by omega), c_t (by omega)]
  | succ j ih =>
    intro k τ v3 v4 e hI
    obtain ⟨i1, i2, i3, i4⟩ := id hI
    have hp2 : D.bP f + k < D.bP (f + 1) := by omega
    have hRp := hR.2 (D.bP f + k) (by omega)
    have hPp := hPf.2.2.1 (D.bP f + k) (by omega) hp2
    have hkq := mKd3 (D.K (D.bP f + k)) (by have := hPp.1.1; omega)
    have hll := puL_le (D := D) (Gs := Gs) (f := f) (D.bP (f + 1) - D.bP f - (k + 1)) (k + 1)
    rw [show k + 1 + (D.bP (f + 1) - D.bP f - (k + 1)) = D.bP (f + 1) - D.bP f by omega] at hll
    have hlk := puL_len (D := D) (Gs := Gs) (f := f) k
    have hlR : (nmK D Gs f r τ0 k).length ≤ (puL D Gs f k).length := by
      have := (nmL_len (r := r) ((puL D Gs f k).map (fun e => pnM D τ0 e.1 e.2)) []).2
      rw [List.length_map] at this
      have e0 : ([] : List Nat).length = 0 := rfl
      unfold nmK; omega
    have estep : nmK D Gs f r τ0 (k + 1) = nmL r ((List.range (D.np Gs f (D.bP f + k))).map (fun i => pnM D τ0 (D.bP f + k) i)) (nmK D Gs f r τ0 k) := by
      unfold nmK
      show nmL r ((puL D Gs f k ++ (List.range (D.np Gs f (D.bP f + k))).map (fun i => (D.bP f + k, i))).map _) [] = _
      rw [List.map_append, nmL_app, List.map_map]
      rfl
    obtain ⟨z, z1, z2⟩ := isPut_m (L := L) (xs := xs) (σ := τ) hF hf hR (i3.rd (j := 151) rfl _) (show D.bP f ≤ D.bP f + k by omega) hp2 (d + 1)
    have head : rn L xs (d + 3) 349 12 [.ref 123, .int (i32 (f : Int)), .int (i32 ((D.bP f + k : Nat) : Int)), v3, v4] [] τ = cond (pv_c1 .eq z) (rn L xs (d + 3) 349 42 [.ref 123, .int (i32 (f : Int)), .int (i32 ((D.bP f + k : Nat) : Int)), (dj v3), (dj v4)] [] τ) (cond (pv_in (i32 ((D.bP f + k : Nat) : Int)) 6000) (bV (rn L xs (d + 2) 351 0 [.ref 123, .int (rd τ 178 (ix (i32 ((D.bP f + k : Nat) : Int)))), jv] [] τ) (fun s3 => rn L xs (d + 3) 349 42 [.ref 123, .int (i32 (f : Int)), .int (i32 ((D.bP f + k : Nat) : Int)), (dj (dj v3)), (dj (dj v4))] [] s3) X0) none) := by
      rw [e349_12 (d + 2), i32_up, c_in (by omega) (by omega) (by omega), i32_ixn (by omega), i3.rd (j := 143) rfl, hff.2.1.2.2.2.2.1, c2_ge (by omega) (by omega) (by omega) (by omega), c_f (by omega), bI_ok z1]
    -- the rest of a part, once its own is numbered
    have rest : ∀ (s : tvS) (u3 u4 : Value) (R : List Nat), NLI D Gs f N B G r R τ0 s → (D.K (D.bP f + k) = 3 → D.vl (D.bP f + k) < f → R = nmK D Gs f r τ0 k) → (¬ (D.K (D.bP f + k) = 3 ∧ D.vl (D.bP f + k) < f) → R = nmK D Gs f r τ0 (k + 1)) → ∃ (τ' : tvS) (w3 w4 : Value), rn L xs (d + 3) 349 42 [.ref 123, .int (i32 (f : Int)), .int (i32 ((D.bP f + k : Nat) : Int)), u3, u4] [] s = rn L xs (d + 3) 349 116 [.ref 123, .int (i32 (f : Int)), .int (i32 ((D.bP f + k : Nat) : Int)), w3, w4] [] τ' ∧ NLI D Gs f N B G r (nmK D Gs f r τ0 (k + 1)) τ0 τ' := by
      intro s u3 u4 R hs h1 h2
      have j3 := hs.2.2.1
      have e151 : rd s 151 (D.bP f + k) = i32 (mKd (D.K (D.bP f + k)) : Int) := (j3.rd (j := 151) rfl _).trans hRp.1.2.1
      by_cases q3 : D.K (D.bP f + k) = 3
      · have e157 : rd s 157 (D.bP f + k) = i32 (D.vl (D.bP f + k) : Int) := (j3.rd (j := 157) rfl _).trans (hRp.2.2.2.2.1 (.inr (.inl q3))).2
        have hvle := (hPp.2.2.2.1 q3).2.1
        by_cases qf : D.vl (D.bP f + k) = f
        · rw [h2 (fun h => by omega)] at hs
          refine ⟨s, u3, u4, ?_, hs⟩
          rw [e349_42 (d + 2), c_in (by omega) (by omega) (by omega), i32_ixn (by omega), e151, show (4 : Int32) = i32 4 from rfl, c2_ne (by omega) (by omega) (by omega) (by omega), hkq.2.1.mpr q3, c_f (by omega), c_in (by omega) (by omega) (by omega), e157, qf, c2_refl]
        · have hlt : D.vl (D.bP f + k) < f := by omega
          have hnp : D.np Gs f (D.bP f + k) = Gs.ng (D.vl (D.bP f + k)) := by unfold pgD.np; rw [if_neg (by omega), if_pos ⟨q3, hlt⟩]
          rw [h1 q3 hlt] at hs
          obtain ⟨τ', w3, w4, y1, y2⟩ := nm_call (L := L) (xs := xs) hF hf hR hcl hB (show D.bP f ≤ D.bP f + k by omega) hp2 q3 hlt d (Gs.ng (D.vl (D.bP f + k))) 0 (nmK D Gs f r τ0 k) s (by omega) (by omega) hs
          refine ⟨τ', w3, w4, ?_, ?_⟩
          · rw [e349_42 (d + 2), c_in (by omega) (by omega) (by omega), i32_ixn (by omega), e151, show (4 : Int32) = i32 4 from rfl, c2_ne (by omega) (by omega) (by omega) (by omega), hkq.2.1.mpr q3, c_f (by omega), c_in (by omega) (by omega) (by omega), e157, c2_eq (by omega) (by omega) (by omega) (by omega), c_f (by omega), c_in (by omega) (by omega) (by omega)]
            exact y1
          · rw [estep, hnp]
            have e0 : (List.range (Gs.ng (D.vl (D.bP f + k)))).map (fun i => pnM D τ0 (D.bP f + k) (0 + i)) = (List.range (Gs.ng (D.vl (D.bP f + k)))).map (fun i => pnM D τ0 (D.bP f + k) i) := List.map_congr_left (fun i _ => by rw [Nat.zero_add])
            rw [← e0]; exact y2
      · rw [h2 (fun h => q3 h.1)] at hs
        refine ⟨s, u3, u4, ?_, hs⟩
        rw [e349_42 (d + 2), c_in (by omega) (by omega) (by omega), i32_ixn (by omega), e151, show (4 : Int32) = i32 4 from rfl, c2_ne (by omega) (by omega) (by omega) (by omega), c_t (show ¬ (mKd (D.K (D.bP f + k)) : Int) = 4 from fun h => q3 (hkq.2.1.mp (by omega)))]
    obtain ⟨s2, w3, w4, y1, y2⟩ : ∃ (s2 : tvS) (w3 w4 : Value), rn L xs (d + 3) 349 12 [.ref 123, .int (i32 (f : Int)), .int (i32 ((D.bP f + k : Nat) : Int)), v3, v4] [] τ = rn L xs (d + 3) 349 116 [.ref 123, .int (i32 (f : Int)), .int (i32 ((D.bP f + k : Nat) : Int)), w3, w4] [] s2 ∧ NLI D Gs f N B G r (nmK D Gs f r τ0 (k + 1)) τ0 s2 := by
      rcases z2 with ⟨w1, w2⟩ | ⟨w1, w2⟩
      · have hnp : D.np Gs f (D.bP f + k) = 1 := by unfold pgD.np; rw [if_pos w2]
        have hpn : ∀ i, pnM D τ0 (D.bP f + k) i = oM τ0 (D.bP f + k) := fun i => by unfold pnM; rw [if_pos w2]
        obtain ⟨t1, t2⟩ := hty.1 (D.bP f + k) (by omega) hp2
        have hB1 := hB (D.bP f + k) 0 (by omega) hp2 (by omega)
        rw [hpn] at hB1
        obtain ⟨s1, a1, a2, a3, a4, a5⟩ := num_m (L := L) (xs := xs) i1 i1.2.2.1 t2 hB1 i2 (by omega) d jv
        have e1 : numA (nmK D Gs f r τ0 k) (r (oM τ0 (D.bP f + k))) = nmK D Gs f r τ0 (k + 1) := by
          rw [estep, hnp]
          show _ = numA (nmK D Gs f r τ0 k) (r (pnM D τ0 (D.bP f + k) 0))
          rw [hpn]
        obtain ⟨s2, w3, w4, y1, y2⟩ := rest s1 (dj (dj v3)) (dj (dj v4)) _ ⟨a2, a3, i3.trans (a4.sub rfl rfl), fun t ht => (a5 t ht).trans (i4 t ht)⟩ (fun h => by omega) (fun _ => e1)
        refine ⟨s2, w3, w4, ?_, y2⟩
        rw [head, w1, show pv_c1 .eq (1 : Int32) = false from rfl, cond_false, c_in (by omega) (by omega) (by omega), i32_ixn (by omega), i3.rd (j := 178) rfl, t1, bV_ok a1]
        exact y1
      · obtain ⟨s2, w3, w4, y1, y2⟩ := rest τ (dj v3) (dj v4) _ hI (fun _ _ => rfl) (fun h => by
          have hnp : D.np Gs f (D.bP f + k) = 0 := by unfold pgD.np; rw [if_neg w2, if_neg h]
          rw [estep, hnp]; rfl)
        refine ⟨s2, w3, w4, ?_, y2⟩
        rw [head, w1, show pv_c1 .eq (0 : Int32) = true from rfl, cond_true]
        exact y1
    obtain ⟨τ', x2, x3, x4, q1, q2⟩ := ih (k + 1) s2 w3 w4 (by omega) y2
    refine ⟨τ', x2, x3, x4, ?_, q2⟩
    rw [y1, e349_116, i32_up]
    exact q1
def wdN (n : Nat) : Nat := if n = 0 then 0 else 1
theorem wd_all : ((List.range 61).all fun k => decide ((i32 (k : Int) + 63) / 64 = i32 (wdN k : Int))) = true := by decide
theorem wd_eq {k : Nat} (hk : k ≤ 60) : (i32 (k : Int) + 63) / 64 = i32 (wdN k : Int) := of_decide_eq_true (List.all_eq_true.mp wd_all k (List.mem_range.mpr (by omega)))
/-- all numbers of a function -/
theorem numberAll_m (hF : PGF D m) (hf : f ≤ D.fc) (hR : PGR D σ0 τ0) (hty : TYm D f N τ0) (hcl : CLm D Gs f N τ0) (hB : ∀ q i, D.bP f ≤ q → q < D.bP (f + 1) → i < D.np Gs f q → B ≤ r (pnM D τ0 q i)) (hl : (puL D Gs f (D.bP (f + 1) - D.bP f)).length ≤ 9999) (hT : TM N G r τ0) (hz : ∀ t, B ≤ t → rd τ0 184 t = 0) (d : Nat) (v2 v3 v4 : Value) :
    ∃ (τ' : tvS), rn L xs (d + 3) 349 0 [.ref 123, .int (i32 (f : Int)), v2, v3, v4] [] τ0 = some (.inl none, τ') ∧ TM N G r τ' ∧ NUM B (nmK D Gs f r τ0 (D.bP (f + 1) - D.bP f)) τ' ∧ frM FNM [87, 90] τ0 τ' ∧ (∀ t, t < B → rd τ' 184 t = rd τ0 184 t) ∧ ((nmK D Gs f r τ0 (D.bP (f + 1) - D.bP f)).length ≤ 60 → rd τ' 123 90 = i32 (wdN (nmK D Gs f r τ0 (D.bP (f + 1) - D.bP f)).length : Int)) := by
  have hb4 := hF.1
  have hbl := (hF.le (D.fc + 1 - (f + 1)) (f + 1) (by omega))
  have hlt := (hF.2.2 f hf).1.1
  have hff := hR.1 f hf
  have w1 : frM FNM [87] τ0 (wr τ0 123 87 0) := frM_w rfl
  have hN0 : NUM B [] (wr τ0 123 87 0) := ⟨by rw [wr_self]; rfl, Nat.zero_le _, fun i x hx => (by cases hx), fun t h1 _ => by rw [wr_nek (by decide)]; exact hz t h1, List.nodup_nil⟩
  obtain ⟨t1, w2, w3, w4, a1, a2, a3, a4, a5⟩ := nm_loop (L := L) (xs := xs) (G := G) hF hf hR hty hcl hB hl d (D.bP (f + 1) - D.bP f) 0 (wr τ0 123 87 0) v3 v4 (by omega) ⟨hT.fr (F := [87]) (S := []) (frM_w rfl) rfl ⟨rfl, rfl, rfl, rfl⟩, hN0, w1, fun t _ => wr_nek (by decide)⟩
  obtain ⟨R, eR⟩ : ∃ R, R = nmK D Gs f r τ0 (D.bP (f + 1) - D.bP f) := ⟨_, rfl⟩
  rw [← eR] at a3 ⊢
  have a1' : rn L xs (d + 3) 349 12 [.ref 123, .int (i32 (f : Int)), .int (i32 (D.bP f : Int)), v3, v4] [] (wr τ0 123 87 0) = rn L xs (d + 3) 349 122 [.ref 123, .int (i32 (f : Int)), w2, w3, w4] [] t1 := a1
  have w5 : frM [] [90] t1 (wr t1 123 90 ((rd t1 123 87 + 63) / 64)) := frM_w rfl
  refine ⟨wr t1 123 90 ((rd t1 123 87 + 63) / 64), ?_, a2.fr w5 rfl ⟨rfl, rfl, rfl, rfl⟩, ?_, (a4.sub rfl rfl).trans (w5.sub rfl rfl), fun t ht => by rw [w5.rd (j := 184) rfl]; exact a5 t ht, fun hk => ?_⟩
  · rw [e349_0, c_in (by omega) (by omega) (by omega), i32_ixn (by omega), hff.2.1.2.2.2.1, a1', e349_122]
  · obtain ⟨n1, n2, n3, n4, n5⟩ := a3
    exact ⟨by rw [wr_nei (by decide)]; exact n1, n2, fun i x hx => by rw [w5.rd (j := 185) rfl, w5.rd (j := 184) rfl]; exact n3 i x hx, fun t h1 h2 => by rw [w5.rd (j := 184) rfl]; exact n4 t h1 h2, n5⟩
  · rw [wr_self, a3.1, wd_eq hk]
end NUMALL
