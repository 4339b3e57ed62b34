/-! REGIONS, THE MODEL: owners of all numbers -/
section FINDOWN
variable {L : Nat} {xs : Nat → Int32} {σ σ' τ0 τ1 σ0 : tvS} {D : pgD} {Gs : sgD} {m f : Nat}
def cM (τ : tvS) (q i : Nat) : Nat := ix (rd τ 182 (ix (rd τ 181 q) + i))
/-- a part that puts its own type -/
def pgD.pu (D : pgD) (p : Nat) : Prop := D.K p = 4 ∨ D.K p = 16 ∨ D.K p = 17
/-- how many a part puts -/
def pgD.np (D : pgD) (G : sgD) (f p : Nat) : Nat := if D.K p = 4 ∨ D.K p = 16 ∨ D.K p = 17 then 1 else if D.K p = 3 ∧ D.vl p < f then G.ng (D.vl p) else 0
/-- the model's -/
def pnM (D : pgD) (τ : tvS) (p i : Nat) : Nat := if D.K p = 4 ∨ D.K p = 16 ∨ D.K p = 17 then oM τ p else cM τ p (D.bk (D.vl p) + 1 + i)
/-- calls of older functions, in the model's memory -/
def CLm (D : pgD) (G : sgD) (f N : Nat) (τ : tvS) : Prop := ∀ p, D.bP f ≤ p → p < D.bP (f + 1) → D.K p = 3 → D.vl p < f → ∃ n1 : Nat, rd τ 181 p = i32 (n1 : Int) ∧ n1 + D.cn G p ≤ 60000 ∧ (∀ i, i < D.cn G p → rd τ 182 (n1 + i) = i32 (cM τ p i : Int) ∧ cM τ p i < N) ∧ rd τ 191 (D.vl p) = i32 (G.ng (D.vl p) : Int) ∧ G.ng (D.vl p) ≤ 24
theorem mKd_put : ∀ x, x < 21 → ((mKd x = 5 ∨ mKd x = 9 ∨ mKd x = 10) ↔ (x = 4 ∨ x = 16 ∨ x = 17)) := by decide
theorem isPut_m {p : Nat} (hF : PGF D m) (hf : f ≤ D.fc) (hR : PGR D σ0 τ0) (h151 : rd σ 151 p = rd τ0 151 p) (hp1 : D.bP f ≤ p) (hp2 : p < D.bP (f + 1)) (d : Nat) : ∃ y : Int32, rn L xs (d + 1) 350 0 [.ref 123, .int (i32 (p : Int))] [] σ = some (.inl (some (.int y)), σ) ∧ ((y = 1 ∧ (D.K p = 4 ∨ D.K p = 16 ∨ D.K p = 17)) ∨ (y = 0 ∧ ¬ (D.K p = 4 ∨ D.K p = 16 ∨ D.K p = 17))) := by
  have hb4 := hF.1
  have hbl := (hF.le (D.fc + 1 - (f + 1)) (f + 1) (by omega))
  have hRp := hR.2 p (by omega)
  have hk := ((hF.2.2 f hf).2.2.1 p hp1 hp2).1.1
  have hm := mKd_put (D.K p) (by omega)
  have hmb : mKd (D.K p) < 14 := by
    have : ∀ x, x < 21 → mKd x < 14 := by decide
    exact this _ (by omega)
  have e : rd σ 151 p = i32 (mKd (D.K p) : Int) := h151.trans hRp.1.2.1
  by_cases c : D.K p = 4 ∨ D.K p = 16 ∨ D.K p = 17
  · refine ⟨1, ?_, .inl ⟨rfl, c⟩⟩
    have c' := hm.mpr c
    have h32 : rn L xs (d + 1) 350 32 [.ref 123, .int (i32 (p : Int))] [] σ = some (.inl (some (.int 1)), σ) := by rw [e350_32, e350_37, b01_1, cond_true]
    rw [e350_0, c_in (by omega) (by omega) (by omega), i32_ixn (by omega), e, show (5 : Int32) = i32 5 from rfl, c2_eq (by omega) (by omega) (by omega) (by omega)]
    by_cases q5 : mKd (D.K p) = 5
    · rw [c_t (by omega), h32]
    · rw [c_f (by omega), show (9 : Int32) = i32 9 from rfl, c_in (by omega) (by omega) (by omega), c2_eq (by omega) (by omega) (by omega) (by omega)]
      by_cases q9 : mKd (D.K p) = 9
      · rw [c_t (by omega), h32]
      · rw [c_f (by omega), show (10 : Int32) = i32 10 from rfl, c_in (by omega) (by omega) (by omega), c2_ne (by omega) (by omega) (by omega) (by omega), c_f (by omega), h32]
  · refine ⟨0, ?_, .inr ⟨rfl, c⟩⟩
    have c' : ¬ (mKd (D.K p) = 5 ∨ mKd (D.K p) = 9 ∨ mKd (D.K p) = 10) := fun q => c (hm.mp q)
    rw [e350_0, c_in (by omega) (by omega) (by omega), i32_ixn (by omega), e, show (5 : Int32) = i32 5 from rfl, c2_eq (by omega) (by omega) (by omega) (by omega), c_f (by omega), show (9 : Int32) = i32 9 from rfl, c_in (by omega) (by omega) (by omega), c2_eq (by omega) (by omega) (by omega) (by omega), c_f (by omega), show (10 : Int32) = i32 10 from rfl, c_in (by omega) (by omega) (by omega), c2_ne (by omega) (by omega) (by omega) (by omega), c_t (by omega), e350_36, e350_37, b01_0, cond_true]
/-- puts of the parts below p -/
def PSb (D : pgD) (G : sgD) (f : Nat) (τ : tvS) (p q t : Nat) : Prop := D.bP f ≤ q ∧ q < p ∧ ∃ i, i < D.np G f q ∧ t = pnM D τ q i
theorem OWk.congr {r : Nat → Nat} {R : List Nat} {BT : Nat → Nat → Prop} {PS PS' : Nat → Nat → Prop} {ow : Nat → Int} (h : OWk D f r R BT PS ow) (e : ∀ q t, PS q t ↔ PS' q t) : OWk D f r R BT PS' ow := fun k x hx => by
  rcases h k x hx with ⟨a, b⟩ | ⟨q, t, a, b⟩
  · exact .inl ⟨a, fun q t k => b q t ((e q t).mpr k)⟩
  · exact .inr ⟨q, t, (e q t).mp a, b⟩
theorem FOI.congr {N : Nat} {G : tG} {r : Nat → Nat} {hl : Nat → List Nat} {hv : Nat → Nat} {H S : Nat} {R : List Nat} {BT : Nat → Nat → Prop} {PS PS' : Nat → Nat → Prop} {ow : Nat → Int} (h : FOI D f N G r hl hv H S R BT PS ow τ1 σ) (e : ∀ q t, PS q t ↔ PS' q t) : FOI D f N G r hl hv H S R BT PS' ow τ1 σ := ⟨h.1, h.2.1, h.2.2.1, h.2.2.2.congr e⟩
section LP
variable {N : Nat} {G : tG} {r : Nat → Nat} {hl : Nat → List Nat} {hv : Nat → Nat} {H S : Nat} {R : List Nat} {BT : Nat → Nat → Prop}
theorem fo_call {p : Nat} (hF : PGF D m) (hf : f ≤ D.fc) (hR : PGR D σ0 τ0) (hfm : frX [169, 171, 176] [72, 94] [187, 188, 189] τ0 τ1) (h90 : R ≠ [] → rd τ1 123 90 = i32 ((1 : Nat) : Int)) (hB : R ≠ [] → ∀ p, D.bP f ≤ p → p < D.bP (f + 1) → LBt 187 (p - D.bP f) τ1 (BT p)) (hRl : R.length ≤ 60) (hnd : R.Nodup) (hnum : ∀ i x : Nat, R[i]? = some x → rd τ1 184 x = i32 ((i + 1 : Nat) : Int)) (hcl : CLm D Gs f N τ0) (hin : ∀ q i, D.bP f ≤ q → q < D.bP (f + 1) → i < D.np Gs f q → r (pnM D τ0 q i) ∈ R) (hp1 : D.bP f ≤ p) (hp2 : p < D.bP (f + 1)) (h3 : D.K p = 3) (hvl : D.vl p < f) (PS : Nat → Nat → Prop) (d : Nat) : ∀ (j k : Nat) (σ : tvS) (ow : Nat → Int), k + j = Gs.ng (D.vl p) → FOI D f N G r hl hv H S R BT (fun q t => PS q t ∨ (q = p ∧ ∃ i, i < k ∧ t = pnM D τ0 p i)) ow τ1 σ →
    ∃ (σ' : tvS) (ow' : Nat → Int) (w3 w4 : Value), rn L xs (d + 4) 355 102 [.ref 123, .int (i32 (f : Int)), .int (i32 (p : Int)), .int (i32 (D.vl p : Int)), .int (i32 (k : Int))] [] σ = rn L xs (d + 4) 355 157 [.ref 123, .int (i32 (f : Int)), .int (i32 (p : Int)), w3, w4] [] σ' ∧ FOI D f N G r hl hv H S R BT (fun q t => PS q t ∨ (q = p ∧ ∃ i, i < Gs.ng (D.vl p) ∧ t = pnM D τ0 p i)) ow' τ1 σ' := by
  have hb4 := hF.1
  have hbl := (hF.le (D.fc + 1 - (f + 1)) (f + 1) (by omega))
  obtain ⟨n1, c1, c2, c3, c4, c5⟩ := hcl p hp1 hp2 h3 hvl
  have hcn : D.cn Gs p = D.bk (D.vl p) + 1 + Gs.ng (D.vl p) := rfl
  have hkk := (hF.2.2 (D.vl p) (by omega)).1.2.2.2
  have e140 := (hR.1 (D.vl p) (by omega)).2.1.1
  have hnp : D.np Gs f p = Gs.ng (D.vl p) := by unfold pgD.np; rw [if_neg (by omega), if_pos ⟨h3, hvl⟩]
  have hpn : ∀ i, pnM D τ0 p i = cM τ0 p (D.bk (D.vl p) + 1 + i) := fun i => by unfold pnM; rw [if_neg (by omega)]
  intro j
  induction j with
  | zero =>
    intro k σ ow e hI
    have e : k = Gs.ng (D.vl p) := by omega
    subst e
    have w := hI.2.1
    refine ⟨σ, ow, .int (i32 (D.vl p : Int)), .int (i32 (Gs.ng (D.vl p) : Int)), ?_, hI⟩
    have e191 : rd σ 191 (D.vl p) = i32 (Gs.ng (D.vl p) : Int) := by rw [w.rd (j := 191) rfl, hfm.rd (j := 191) rfl]; exact c4
    rw [e355_102, c_in (by omega) (by omega) (by omega), i32_ixn (by omega), e191, c2_ge (by omega) (by omega) (by omega) (by omega), c_t (by omega)]
  | succ j ih =>
    intro k σ ow e hI
    have w := hI.2.1
    have rdd : ∀ jj, inL (123 :: [169, 171, 176]) jj = false → inL (123 :: [169, 186]) jj = false → ∀ i, rd σ jj i = rd τ0 jj i := fun jj h1 h2 i => by rw [w.1.1 jj h2 i, hfm.1 jj h1 i]
    have e191 : rd σ 191 (D.vl p) = i32 (Gs.ng (D.vl p) : Int) := (rdd 191 rfl rfl _).trans c4
    have e181 : rd σ 181 p = i32 (n1 : Int) := (rdd 181 rfl rfl _).trans c1
    have e140' : rd σ 140 (D.vl p) = i32 (D.bk (D.vl p) : Int) := (rdd 140 rfl rfl _).trans e140
    obtain ⟨c6, c7⟩ := c3 (D.bk (D.vl p) + 1 + k) (by omega)
    have e182 : rd σ 182 (n1 + (D.bk (D.vl p) + 1 + k)) = i32 (pnM D τ0 p k : Int) := by rw [rdd 182 rfl rfl, c6, hpn]
    have ix1 : i32 (n1 : Int) + i32 (D.bk (D.vl p) : Int) + 1 + i32 (k : Int) = i32 ((n1 + (D.bk (D.vl p) + 1 + k) : Nat) : Int) := by
      rw [i32_add, show (1 : Int32) = i32 1 from rfl, i32_add, i32_add]; congr 1; omega
    have htN : pnM D τ0 p k < N := by rw [hpn]; exact c7
    obtain ⟨s1, a1, a2, s2, ow1, a3, a4⟩ := own_m (L := L) (xs := xs) (t := pnM D τ0 p k) (p := p) hF hf hR hfm h90 hB hRl hnd hnum hI htN (hin p k hp1 hp2 (by omega)) hp1 hp2 d
    have a4' := a4.congr (PS' := fun q t => PS q t ∨ (q = p ∧ ∃ i, i < k + 1 ∧ t = pnM D τ0 p i)) (fun q t => by
      constructor
      · rintro ((h | ⟨h1, i, h2, h3⟩) | ⟨h1, h2⟩)
        · exact .inl h
        · exact .inr ⟨h1, i, by omega, h3⟩
        · exact .inr ⟨h1, k, by omega, h2⟩
      · rintro (h | ⟨h1, i, h2, h3⟩)
        · exact .inl (.inl h)
        · by_cases ei : i = k
          · rw [ei] at h3; exact .inr ⟨h1, h3⟩
          · exact .inl (.inr ⟨h1, i, by omega, h3⟩))
    obtain ⟨σ', ow', w3, w4, z1, z2⟩ := ih (k + 1) s2 ow1 (by omega) a4'
    refine ⟨σ', ow', w3, w4, ?_, z2⟩
    rw [e355_102 (d + 3), c_in (by omega) (by omega) (by omega), i32_ixn (by omega), e191, c2_ge (by omega) (by omega) (by omega) (by omega), c_f (by omega), c_in (by omega) (by omega) (by omega), i32_ixn (by omega), c_in (by omega) (by omega) (by omega), e181, e140', ix1, c_in (by omega) (by omega) (by omega), i32_ixn (by omega), e182, bI_ok a1, c_in (by omega) (by omega) (by omega), i32_ixn (by omega), bV_ok a3, i32_up]
    exact z1
theorem fo_loop (hF : PGF D m) (hf : f ≤ D.fc) (hR : PGR D σ0 τ0) (hfm : frX [169, 171, 176] [72, 94] [187, 188, 189] τ0 τ1) (h90 : R ≠ [] → rd τ1 123 90 = i32 ((1 : Nat) : Int)) (hB : R ≠ [] → ∀ p, D.bP f ≤ p → p < D.bP (f + 1) → LBt 187 (p - D.bP f) τ1 (BT p)) (hRl : R.length ≤ 60) (hnd : R.Nodup) (hnum : ∀ i x : Nat, R[i]? = some x → rd τ1 184 x = i32 ((i + 1 : Nat) : Int)) (hty : TYm D f N τ0) (hcl : CLm D Gs f N τ0) (hin : ∀ q i, D.bP f ≤ q → q < D.bP (f + 1) → i < D.np Gs f q → r (pnM D τ0 q i) ∈ R) (d : Nat) : ∀ (j p : Nat) (σ : tvS) (ow : Nat → Int) (v3 v4 : Value), p + j = D.bP (f + 1) → D.bP f ≤ p → FOI D f N G r hl hv H S R BT (PSb D Gs f τ0 p) ow τ1 σ →
    ∃ (σ' : tvS) (ow' : Nat → Int), rn L xs (d + 4) 355 31 [.ref 123, .int (i32 (f : Int)), .int (i32 (p : Int)), v3, v4] [] σ = some (.inl none, σ') ∧ FOI D f N G r hl hv H S R BT (PSb D Gs f τ0 (D.bP (f + 1))) ow' τ1 σ' := by
  have hb4 := hF.1
  have hbl := (hF.le (D.fc + 1 - (f + 1)) (f + 1) (by omega))
  have hff := hR.1 f hf
  intro j
  induction j with
  | zero =>
    intro p σ ow v3 v4 e hp hI
    have e : p = D.bP (f + 1) := by omega
    subst e
    refine ⟨σ, ow, ?_, hI⟩
    have e143 : rd σ 143 (f + 1) = i32 (D.bP (f + 1) : Int) := by rw [hI.2.1.rd (j := 143) rfl, hfm.rd (j := 143) rfl]; exact hff.2.1.2.2.2.2.1
    rw [e355_31, i32_up, c_in (by omega) (by omega) (by omega), i32_ixn (by omega), e143, c2_ge (by omega) (by omega) (by omega) (by omega), c_t (by omega), e355_163]
  | succ j ih =>
    intro p σ ow v3 v4 e hp hI
    have w := hI.2.1
    have rdd : ∀ jj, inL (123 :: [169, 171, 176]) jj = false → inL (123 :: [169, 186]) jj = false → ∀ i, rd σ jj i = rd τ0 jj i := fun jj h1 h2 i => by rw [w.1.1 jj h2 i, hfm.1 jj h1 i]
    have hRp := hR.2 p (by omega)
    have hPp := (hF.2.2 f hf).2.2.1 p hp (by omega)
    have hk20 := hPp.1.1
    have hmk := mKd_call (D.K p) (by omega)
    have hmb : mKd (D.K p) < 14 := by
      have : ∀ x, x < 21 → mKd x < 14 := by decide
      exact this _ (by omega)
    have e143 : rd σ 143 (f + 1) = i32 (D.bP (f + 1) : Int) := (rdd 143 rfl rfl _).trans hff.2.1.2.2.2.2.1
    obtain ⟨y, y1, y2⟩ := isPut_m (L := L) (xs := xs) (σ := σ) (p := p) hF hf hR (rdd 151 rfl rfl p) hp (by omega) (d + 2)
    have e31 : rn L xs (d + 4) 355 31 [.ref 123, .int (i32 (f : Int)), .int (i32 (p : Int)), v3, v4] [] σ = cond (pv_c1 .eq y) (rn L xs (d + 4) 355 72 [.ref 123, .int (i32 (f : Int)), .int (i32 (p : Int)), (dj v3), (dj v4)] [] σ) (cond (pv_in (i32 (p : Int)) 6000) (bI (rn L xs (d + 3) 337 0 [.ref 123, .int (rd σ 178 (ix (i32 (p : Int)))), jv, jv, jv] [] σ) (fun a4 s3 => cond (pv_in a4 100000) (bV (rn L xs (d + 3) 356 0 [.ref 123, .int (i32 (f : Int)), .int (i32 (p : Int)), .int (rd s3 184 (ix a4))] [] s3) (fun s5 => rn L xs (d + 4) 355 72 [.ref 123, .int (i32 (f : Int)), .int (i32 (p : Int)), (dj (dj (dj v3))), (dj (dj (dj v4)))] [] s5) X0) none) X0) none) := by
      rw [e355_31 (d + 3), i32_up, c_in (by omega) (by omega) (by omega), i32_ixn (by omega), e143, c2_ge (by omega) (by omega) (by omega) (by omega), c_f (by omega), bI_ok y1]
    -- the next part
    have next : ∀ (s : tvS) (ow1 : Nat → Int) (u3 u4 : Value), FOI D f N G r hl hv H S R BT (PSb D Gs f τ0 (p + 1)) ow1 τ1 s → ∃ (σ' : tvS) (ow' : Nat → Int), rn L xs (d + 4) 355 157 [.ref 123, .int (i32 (f : Int)), .int (i32 (p : Int)), u3, u4] [] s = some (.inl none, σ') ∧ FOI D f N G r hl hv H S R BT (PSb D Gs f τ0 (D.bP (f + 1))) ow' τ1 σ' := fun s ow1 u3 u4 h => by
      obtain ⟨σ', ow', z1, z2⟩ := ih (p + 1) s ow1 u3 u4 (by omega) (by omega) h
      exact ⟨σ', ow', by rw [e355_157, i32_up]; exact z1, z2⟩
    have psn : ∀ (X : Nat → Prop), (∀ t, X t ↔ ∃ i, i < D.np Gs f p ∧ t = pnM D τ0 p i) → ∀ q t, (PSb D Gs f τ0 p q t ∨ (q = p ∧ X t)) ↔ PSb D Gs f τ0 (p + 1) q t := fun X hX q t => by
      unfold PSb
      constructor
      · rintro (⟨h1, h2, h3⟩ | ⟨h1, h2⟩)
        · exact ⟨h1, by omega, h3⟩
        · rw [h1]; exact ⟨hp, by omega, (hX t).mp h2⟩
      · rintro ⟨h1, h2, h3⟩
        by_cases eq : q = p
        · rw [eq] at h3; exact .inr ⟨eq, (hX t).mpr h3⟩
        · exact .inl ⟨h1, by omega, h3⟩
    -- calls
    have call : ∀ (s : tvS) (ow1 : Nat → Int) (u3 u4 : Value), frM [169, 186] [] τ1 s → ¬ (D.K p = 3 ∧ D.vl p < f) → FOI D f N G r hl hv H S R BT (PSb D Gs f τ0 (p + 1)) ow1 τ1 s → ∃ (σ' : tvS) (ow' : Nat → Int), rn L xs (d + 4) 355 72 [.ref 123, .int (i32 (f : Int)), .int (i32 (p : Int)), u3, u4] [] s = some (.inl none, σ') ∧ FOI D f N G r hl hv H S R BT (PSb D Gs f τ0 (D.bP (f + 1))) ow' τ1 σ' := fun s ow1 u3 u4 ws hn h => by
      obtain ⟨σ', ow', z1, z2⟩ := next s ow1 u3 u4 h
      refine ⟨σ', ow', ?_, z2⟩
      have e151 : rd s 151 p = i32 (mKd (D.K p) : Int) := by rw [ws.rd (j := 151) rfl, hfm.rd (j := 151) rfl]; exact hRp.1.2.1
      rw [e355_72, c_in (by omega) (by omega) (by omega), i32_ixn (by omega), e151, show (4 : Int32) = i32 4 from rfl, c2_ne (by omega) (by omega) (by omega) (by omega)]
      by_cases q3 : D.K p = 3
      · have e157 : rd s 157 p = i32 (D.vl p : Int) := by rw [ws.rd (j := 157) rfl, hfm.rd (j := 157) rfl]; exact (hRp.2.2.2.2.1 (.inr (.inl q3))).2
        have hvl := hPp.2.2.2.1 q3
        rw [c_f (by omega), c_in (by omega) (by omega) (by omega), e157, c2_eq (by omega) (by omega) (by omega) (by omega), c_t (by omega)]
        exact z1
      · rw [c_t (by omega)]; exact z1
    rcases y2 with ⟨e1, hput⟩ | ⟨e1, hput⟩
    · obtain ⟨t1, t2⟩ := hty.1 p hp (by omega)
      have hnp : D.np Gs f p = 1 := by unfold pgD.np; rw [if_pos hput]
      have hpn : pnM D τ0 p 0 = oM τ0 p := by unfold pnM; rw [if_pos hput]
      have e178 : rd σ 178 p = i32 (oM τ0 p : Int) := (rdd 178 rfl rfl p).trans t1
      obtain ⟨s1, a1, a2, s2, ow1, a3, a4⟩ := own_m (L := L) (xs := xs) (t := oM τ0 p) (p := p) hF hf hR hfm h90 hB hRl hnd hnum hI t2 (by rw [← hpn]; exact hin p 0 hp (by omega) (by omega)) hp (by omega) d
      have a4' := a4.congr (psn (fun t => t = oM τ0 p) (fun t => by
        rw [hnp]
        exact ⟨fun h => ⟨0, by omega, by rw [hpn]; exact h⟩, fun ⟨i, i1, i2⟩ => by rw [show i = 0 by omega, hpn] at i2; exact i2⟩))
      obtain ⟨σ', ow', z1, z2⟩ := call s2 ow1 (dj (dj (dj v3))) (dj (dj (dj v4))) a4.2.1 (by omega) a4'
      refine ⟨σ', ow', ?_, z2⟩
      rw [e31, e1, show pv_c1 .eq (1 : Int32) = false from rfl, cond_false, c_in (by omega) (by omega) (by omega), i32_ixn (by omega), e178, bI_ok a1, c_in (by omega) (by omega) (by omega), i32_ixn (by omega), bV_ok a3]
      exact z1
    · rw [e31, e1, show pv_c1 .eq (0 : Int32) = true from rfl, cond_true]
      by_cases c : D.K p = 3 ∧ D.vl p < f
      · obtain ⟨q3, qv⟩ := c
        have hnp : D.np Gs f p = Gs.ng (D.vl p) := by unfold pgD.np; rw [if_neg hput, if_pos ⟨q3, qv⟩]
        obtain ⟨s1, ow1, w3, w4, a1, a2⟩ := fo_call (L := L) (xs := xs) (Gs := Gs) (p := p) hF hf hR hfm h90 hB hRl hnd hnum hcl hin hp (by omega) q3 qv (PSb D Gs f τ0 p) d (Gs.ng (D.vl p)) 0 σ ow (by omega) (hI.congr (fun q t => ⟨.inl, fun h => h.elim id (fun ⟨_, i, i1, _⟩ => by omega)⟩))
        have a2' := a2.congr (psn (fun t => ∃ i, i < Gs.ng (D.vl p) ∧ t = pnM D τ0 p i) (fun t => by rw [hnp]))
        obtain ⟨σ', ow', z1, z2⟩ := next s1 ow1 w3 w4 a2'
        refine ⟨σ', ow', ?_, z2⟩
        have e151 : rd σ 151 p = i32 (mKd (D.K p) : Int) := (rdd 151 rfl rfl p).trans hRp.1.2.1
        have e157 : rd σ 157 p = i32 (D.vl p : Int) := (rdd 157 rfl rfl p).trans (hRp.2.2.2.2.1 (.inr (.inl q3))).2
        have a1' : rn L xs (d + 4) 355 102 [.ref 123, .int (i32 (f : Int)), .int (i32 (p : Int)), .int (i32 (D.vl p : Int)), .int 0] [] σ = rn L xs (d + 4) 355 157 [.ref 123, .int (i32 (f : Int)), .int (i32 (p : Int)), w3, w4] [] s1 := a1
        rw [e355_72, c_in (by omega) (by omega) (by omega), i32_ixn (by omega), e151, show (4 : Int32) = i32 4 from rfl, c2_ne (by omega) (by omega) (by omega) (by omega), c_f (by omega), c_in (by omega) (by omega) (by omega), e157, c2_eq (by omega) (by omega) (by omega) (by omega), c_f (by omega), c_in (by omega) (by omega) (by omega), a1']
        exact z1
      · have hnp : D.np Gs f p = 0 := by unfold pgD.np; rw [if_neg hput, if_neg c]
        refine call σ ow (dj v3) (dj v4) w c (hI.congr (fun q t => ?_))
        unfold PSb
        constructor
        · rintro ⟨h1, h2, h3⟩; exact ⟨h1, by omega, h3⟩
        · rintro ⟨h1, h2, i, i1, i2⟩
          refine ⟨h1, ?_, i, i1, i2⟩
          by_cases eq : q = p
          · rw [eq, hnp] at i1; omega
          · omega
theorem fo_clear {Rl : Nat} (hRl : Rl ≤ 60) (v3 v4 : Value) (x1 : Int32) (d : Nat) : ∀ (j k : Nat) (σ : tvS), k + j = Rl → rd σ 123 87 = i32 (Rl : Int) → ∃ σ', rn L xs (d + 1) 355 2 [.ref 123, .int x1, .int (i32 (k : Int)), v3, v4] [] σ = rn L xs (d + 1) 355 24 [.ref 123, .int x1, .int (i32 (Rl : Int)), v3, v4] [] σ' ∧ frM [186] [] σ σ' ∧ (∀ i, k ≤ i → i < Rl → rd σ' 186 i = i32 (-2)) ∧ ∀ i, i < k → rd σ' 186 i = rd σ 186 i := by
  have em2 : (Int8.ofInt (-2)).toInt32 = i32 (-2) := by decide
  intro j
  induction j with
  | zero =>
    intro k σ e h
    have e : k = Rl := by omega
    subst e
    refine ⟨σ, ?_, frM.refl, fun i h1 h2 => by omega, fun _ _ => rfl⟩
    rw [e355_2, h, c2_ge (by omega) (by omega) (by omega) (by omega), c_t (by omega)]
  | succ j ih =>
    intro k σ e h
    have w : frM [186] [] σ (wr σ 186 k (i32 (-2))) := frM_wr rfl (by decide)
    obtain ⟨σ', z1, z2, z3, z4⟩ := ih (k + 1) (wr σ 186 k (i32 (-2))) (by omega) ((w.2 87 rfl).trans h)
    refine ⟨σ', ?_, w.trans z2, fun i h1 h2 => ?_, fun i hi => by rw [z4 i (by omega), wr_nei (by omega)]⟩
    · rw [e355_2, h, c2_ge (by omega) (by omega) (by omega) (by omega), c_f (by omega), c_in (by omega) (by omega) (by omega), i32_ixn (by omega), em2, i32_up]
      exact z1
    · by_cases ei : i = k
      · rw [z4 i (by omega), ei, wr_self]
      · exact z3 i (by omega) h2
/-- owners of all numbers: each by a put of its class -/
theorem findOwn_m (hF : PGF D m) (hf : f ≤ D.fc) (hR : PGR D σ0 τ0) (hfm : frX [169, 171, 176] [72, 94] [187, 188, 189] τ0 σ) (h90 : R ≠ [] → rd σ 123 90 = i32 ((1 : Nat) : Int)) (h87 : rd σ 123 87 = i32 (R.length : Int)) (hB : R ≠ [] → ∀ p, D.bP f ≤ p → p < D.bP (f + 1) → LBt 187 (p - D.bP f) σ (BT p)) (hRl : R.length ≤ 60) (hnd : R.Nodup) (hnum : ∀ i x : Nat, R[i]? = some x → rd σ 184 x = i32 ((i + 1 : Nat) : Int)) (hty : TYm D f N τ0) (hcl : CLm D Gs f N τ0) (hin : ∀ q i, D.bP f ≤ q → q < D.bP (f + 1) → i < D.np Gs f q → r (pnM D τ0 q i) ∈ R) (hZ : MZ N G r hl hv H S σ) (d : Nat) (v2 v3 v4 : Value) :
    ∃ (σ' : tvS) (ow : Nat → Int), rn L xs (d + 4) 355 0 [.ref 123, .int (i32 (f : Int)), v2, v3, v4] [] σ = some (.inl none, σ') ∧ MZ N G r hl hv H S σ' ∧ frM [169, 186] [] σ σ' ∧ (∀ k, k < R.length → rd σ' 186 k = i32 (ow k) ∧ -2 ≤ ow k ∧ ow k < 4101) ∧ OWk D f r R BT (PSb D Gs f τ0 (D.bP (f + 1))) ow := by
  have hb4 := hF.1
  have hPf := hF.2.2 f hf
  have hff := hR.1 f hf
  have hlt := hPf.1.1
  obtain ⟨s1, a1, a2, a3, a4⟩ := fo_clear (L := L) (xs := xs) hRl v3 v4 (i32 (f : Int)) (d + 3) R.length 0 σ (by omega) h87
  have hZ1 : MZ N G r hl hv H S s1 := hZ.X (a2.X []) ⟨rfl, rfl, rfl⟩ ⟨rfl, rfl, rfl, rfl⟩ ⟨rfl, rfl, rfl⟩ ⟨rfl, rfl⟩
  have hI1 : FOI D f N G r hl hv H S R BT (PSb D Gs f τ0 (D.bP f)) (fun _ => -2) σ s1 := ⟨hZ1, a2.sub rfl rfl, fun k hk => ⟨a3 k (by omega) hk, (by decide : (-2 : Int) ≤ -2), (by decide : (-2 : Int) < 4101)⟩, fun k x hx => .inl ⟨rfl, fun q t ⟨h1, h2, _⟩ => by omega⟩⟩
  obtain ⟨σ', ow, z1, ⟨z2, z3, z4, z5⟩⟩ := fo_loop (L := L) (xs := xs) (Gs := Gs) (τ1 := σ) hF hf hR hfm h90 hB hRl hnd hnum hty hcl hin d (D.bP (f + 1) - D.bP f) (D.bP f) s1 (fun _ => -2) v3 v4 (by omega) (Nat.le_refl _) hI1
  refine ⟨σ', ow, ?_, z2, z3, z4, z5⟩
  have e143 : rd s1 143 f = i32 (D.bP f : Int) := by rw [a2.rd (j := 143) rfl, hfm.rd (j := 143) rfl]; exact hff.2.1.2.2.2.1
  have a1' : rn L xs (d + 4) 355 2 [.ref 123, .int (i32 (f : Int)), .int 0, v3, v4] [] σ = rn L xs (d + 4) 355 24 [.ref 123, .int (i32 (f : Int)), .int (i32 (R.length : Int)), v3, v4] [] s1 := a1
  rw [e355_0, a1', e355_24, c_in (by omega) (by omega) (by omega), i32_ixn (by omega), e143]
  exact z1
end LP
end FINDOWN
