/-! REGIONS, THE MODEL: the least place of a type that reaches too much -/
section LEAST
variable {L : Nat} {xs : Nat → Int32} {σ τ τ' τ0 : tvS} {D : pgD} {m f : Nat} {N H S : Nat} {G : tG} {r : Nat → Nat} {hl : Nat → List Nat} {hv : Nat → Nat}
theorem least_parts (hF : PGF D m) (hf : f ≤ D.fc) (hR : PGR D σ τ0) (hty : TYm D f N τ0) (hq : MQt N G r hl hv) (hnm : ∀ t, t < N → r t = t → 2 ≤ G.1 t → RQ G r (hC hl hv) (FTm D f τ0) t → ∃ k : Nat, rd τ0 184 t = i32 (k : Int) ∧ k ≤ 60) (d : Nat) : ∀ (j p S : Nat) (τ : tvS) (pl : Int32) (v4 : Value), p + j = D.bP (f + 1) → D.bP f ≤ p → S + j < 2147483648 → MZ N G r hl hv H S τ → frX [169, 171, 176] [72] [] τ0 τ →
    ∃ (τ' : tvS) (w4 : Value), rn L xs (d + 5) 363 9 [.ref 123, .int (i32 (f : Int)), .int pl, .int (i32 (p : Int)), v4] [] τ = rn L xs (d + 5) 363 85 [.ref 123, .int (i32 (f : Int)), .int (wfo (fun q => gbN G r (hC hl hv) (oM τ0 q)) (fun q => rd τ0 127 (D.lx q)) j p pl), .int (i32 (D.bP (f + 1) : Int)), w4] [] τ' ∧ MZ N G r hl hv H (S + j) τ' ∧ frX [169, 171, 176] [72] [] τ0 τ' := by
  have hb4 := hF.1
  have hbl := (hF.le (D.fc + 1 - (f + 1)) (f + 1) (by omega))
  have hff := hR.1 f hf
  intro j
  induction j with
  | zero =>
    intro p S τ pl v4 e hp hS hZ w
    have e : p = D.bP (f + 1) := by omega
    subst e
    refine ⟨τ, v4, ?_, hZ, w⟩
    rw [e363_9 (d + 4), i32_up, c_in (by omega) (by omega) (by omega), i32_ixn (by omega), w.rd (j := 143) rfl, hff.2.1.2.2.2.2.1, c2_ge (by omega) (by omega) (by omega) (by omega), c_t (by omega)]
    rfl
  | succ j ih =>
    intro p S τ pl v4 e hp hS hZ w
    obtain ⟨t1, t2⟩ := hty.1 p hp (by omega)
    have hlx := ((hF.2.2 f hf).2.2.1 p hp (by omega)).1.2.1
    have e152 := (hR.2 p (by omega)).1.2.2.2.1
    obtain ⟨s1, n, a1, a2, a3, a4, a5⟩ := count_m (L := L) (xs := xs) (x := oM τ0 p) hZ hq (by omega) t2 (fun t ht h1 h2 k => by
      rw [w.rd (j := 184) rfl]
      exact hnm t ht h1 h2 (k.mono (fun b hb => .inl ⟨p, hp, by omega, hb⟩))) d
    obtain ⟨τ', w4, z1, z2, z3⟩ := ih (p + 1) (S + 1) s1 (wrs (gbN G r (hC hl hv) (oM τ0 p)) pl (rd τ0 127 (D.lx p))) (.int (rd τ0 127 (D.lx p))) (by omega) (by omega) (by omega) a4 (w.trans a5)
    refine ⟨τ', w4, ?_, by rw [show S + (j + 1) = S + 1 + j by omega]; exact z2, z3⟩
    rw [e363_9 (d + 4), i32_up, c_in (by omega) (by omega) (by omega), i32_ixn (by omega), w.rd (j := 143) rfl, hff.2.1.2.2.2.2.1, c2_ge (by omega) (by omega) (by omega) (by omega), c_f (by omega), c_in (by omega) (by omega) (by omega), i32_ixn (by omega), w.rd (j := 152) rfl, e152, c_in (by omega) (by omega) (by omega), c_in (by omega) (by omega) (by omega), i32_ixn (by omega), w.rd (j := 178) rfl, t1, bI_ok a1, w.rd (j := 127) rfl, show (24 : Int32) = i32 24 from rfl, c2_le (by omega) (by omega) (by omega) (by omega)]
    have fin : ∀ (y : Int32), y = wrs (gbN G r (hC hl hv) (oM τ0 p)) pl (rd τ0 127 (D.lx p)) → rn L xs (d + 5) 363 79 [.ref 123, .int (i32 (f : Int)), .int y, .int (i32 (p : Int)), .int (rd τ0 127 (D.lx p))] [] s1 = rn L xs (d + 5) 363 85 [.ref 123, .int (i32 (f : Int)), .int (wfo (fun q => gbN G r (hC hl hv) (oM τ0 q)) (fun q => rd τ0 127 (D.lx q)) (j + 1) p pl), .int (i32 (D.bP (f + 1) : Int)), w4] [] τ' := fun y hy => by
      rw [hy, e363_79, i32_up]; exact z1
    by_cases k : 24 < n
    · rw [decide_eq_false (by omega), cond_false, i32_raw]
      have hb := gbN_t (a3.mp k)
      unfold wrs at fin
      rw [hb] at fin
      cases h1 : pv_c2 .eq pl (i32 (-1)) with
      | true => rw [cond_true, e363_72, e363_78]; exact fin _ (by rw [h1]; rfl)
      | false =>
        rw [cond_false]
        cases h2 : pv_c2 .ge (rd τ0 127 (D.lx p)) pl with
        | true => rw [cond_true, e363_77, e363_78]; exact fin _ (by rw [h1, h2]; rfl)
        | false => rw [cond_false, e363_72, e363_78]; exact fin _ (by rw [h1, h2]; rfl)
    · rw [decide_eq_true (by omega), cond_true]
      exact fin _ (by unfold wrs; rw [gbN_f (fun g => k (a3.mpr g))]; rfl)
theorem least_vars (hF : PGF D m) (hf : f ≤ D.fc) (hR : PGR D σ τ0) (hty : TYm D f N τ0) (hq : MQt N G r hl hv) (hnm : ∀ t, t < N → r t = t → 2 ≤ G.1 t → RQ G r (hC hl hv) (FTm D f τ0) t → ∃ k : Nat, rd τ0 184 t = i32 (k : Int) ∧ k ≤ 60) (lv : Nat → Nat) (hlv : ∀ v, v < D.tV (D.fc + 1) → rd τ0 146 v = i32 (lv v : Int) ∧ lv v < m) (d : Nat) : ∀ (j p S : Nat) (τ : tvS) (pl : Int32) (v4 : Value), p + j = D.tV (f + 1) → D.tV f ≤ p → S + j < 2147483648 → MZ N G r hl hv H S τ → frX [169, 171, 176] [72] [] τ0 τ →
    ∃ (τ' : tvS), rn L xs (d + 5) 363 92 [.ref 123, .int (i32 (f : Int)), .int pl, .int (i32 (p : Int)), v4] [] τ = some (.inl (some (.int (wfo (fun q => gbN G r (hC hl hv) (vM τ0 q)) (fun q => rd τ0 127 (lv q)) j p pl))), τ') ∧ MZ N G r hl hv H (S + j) τ' ∧ frX [169, 171, 176] [72] [] τ0 τ' := by
  have hb4 := hF.1
  have hff := hR.1 f hf
  have htl : D.tV (f + 1) ≤ D.tV (D.fc + 1) := by
    have hle : ∀ j g, g + j = D.fc + 1 → D.tV g ≤ D.tV (D.fc + 1) := by
      intro j
      induction j with
      | zero => intro g e; rw [show g = D.fc + 1 by omega]; exact Nat.le_refl _
      | succ j ih => intro g e; exact Nat.le_trans (by have := (hF.2.2 g (by omega)).1.2.1; omega) (ih (g + 1) (by omega))
    exact hle (D.fc - f) (f + 1) (by omega)
  intro j
  induction j with
  | zero =>
    intro p S τ pl v4 e hp hS hZ w
    have e : p = D.tV (f + 1) := by omega
    subst e
    refine ⟨τ, ?_, hZ, w⟩
    rw [e363_92 (d + 4), i32_up, c_in (by omega) (by omega) (by omega), i32_ixn (by omega), w.rd (j := 144) rfl, hff.2.1.2.2.2.2.2.2, c2_ge (by omega) (by omega) (by omega) (by omega), c_t (by omega), e363_168]
    rfl
  | succ j ih =>
    intro p S τ pl v4 e hp hS hZ w
    obtain ⟨t1, t2⟩ := hty.2.1 p hp (by omega)
    obtain ⟨k1, k2⟩ := hlv p (by omega)
    obtain ⟨s1, n, a1, a2, a3, a4, a5⟩ := count_m (L := L) (xs := xs) (x := vM τ0 p) hZ hq (by omega) t2 (fun t ht h1 h2 k => by
      rw [w.rd (j := 184) rfl]
      exact hnm t ht h1 h2 (k.mono (fun b hb => .inr (.inl ⟨p, hp, by omega, hb⟩)))) d
    obtain ⟨τ', z1, z2, z3⟩ := ih (p + 1) (S + 1) s1 (wrs (gbN G r (hC hl hv) (vM τ0 p)) pl (rd τ0 127 (lv p))) (.int (rd τ0 127 (lv p))) (by omega) (by omega) (by omega) a4 (w.trans a5)
    refine ⟨τ', ?_, by rw [show S + (j + 1) = S + 1 + j by omega]; exact z2, z3⟩
    rw [e363_92 (d + 4), i32_up, c_in (by omega) (by omega) (by omega), i32_ixn (by omega), w.rd (j := 144) rfl, hff.2.1.2.2.2.2.2.2, c2_ge (by omega) (by omega) (by omega) (by omega), c_f (by omega), c_in (by omega) (by omega) (by omega), i32_ixn (by omega), w.rd (j := 146) rfl, k1, c_in (by omega) (by omega) (by omega), c_in (by omega) (by omega) (by omega), i32_ixn (by omega), w.rd (j := 179) rfl, t1, bI_ok a1, w.rd (j := 127) rfl, show (24 : Int32) = i32 24 from rfl, c2_le (by omega) (by omega) (by omega) (by omega)]
    have fin : ∀ (y : Int32), y = wrs (gbN G r (hC hl hv) (vM τ0 p)) pl (rd τ0 127 (lv p)) → rn L xs (d + 5) 363 162 [.ref 123, .int (i32 (f : Int)), .int y, .int (i32 (p : Int)), .int (rd τ0 127 (lv p))] [] s1 = some (.inl (some (.int (wfo (fun q => gbN G r (hC hl hv) (vM τ0 q)) (fun q => rd τ0 127 (lv q)) (j + 1) p pl))), τ') := fun y hy => by
      rw [hy, e363_162, i32_up]; exact z1
    by_cases k : 24 < n
    · rw [decide_eq_false (by omega), cond_false, i32_raw]
      have hb := gbN_t (a3.mp k)
      unfold wrs at fin
      rw [hb] at fin
      cases h1 : pv_c2 .eq pl (i32 (-1)) with
      | true => rw [cond_true, e363_155, e363_161]; exact fin _ (by rw [h1]; rfl)
      | false =>
        rw [cond_false]
        cases h2 : pv_c2 .ge (rd τ0 127 (lv p)) pl with
        | true => rw [cond_true, e363_160, e363_161]; exact fin _ (by rw [h1, h2]; rfl)
        | false => rw [cond_false, e363_155, e363_161]; exact fin _ (by rw [h1, h2]; rfl)
    · rw [decide_eq_true (by omega), cond_true]
      exact fin _ (by unfold wrs; rw [gbN_f (fun g => k (a3.mpr g))]; rfl)
/-- the whole -/
theorem least_m (hF : PGF D m) (hf : f ≤ D.fc) (hR : PGR D σ τ0) (hty : TYm D f N τ0) (hq : MQt N G r hl hv) (hnm : ∀ t, t < N → r t = t → 2 ≤ G.1 t → RQ G r (hC hl hv) (FTm D f τ0) t → ∃ k : Nat, rd τ0 184 t = i32 (k : Int) ∧ k ≤ 60) (lv : Nat → Nat) (hlv : ∀ v, v < D.tV (D.fc + 1) → rd τ0 146 v = i32 (lv v : Int) ∧ lv v < m) (hS : S + (D.bP (f + 1) - D.bP f) + (D.tV (f + 1) - D.tV f) < 2147483648) (hZ : MZ N G r hl hv H S τ0) (d : Nat) (v2 v3 v4 : Value) :
    ∃ (τ' : tvS), rn L xs (d + 5) 363 0 [.ref 123, .int (i32 (f : Int)), v2, v3, v4] [] τ0 = some (.inl (some (.int (wfo (fun q => gbN G r (hC hl hv) (vM τ0 q)) (fun q => rd τ0 127 (lv q)) (D.tV (f + 1) - D.tV f) (D.tV f) (wfo (fun q => gbN G r (hC hl hv) (oM τ0 q)) (fun q => rd τ0 127 (D.lx q)) (D.bP (f + 1) - D.bP f) (D.bP f) (i32 (-1)))))), τ') ∧ MZ N G r hl hv H (S + (D.bP (f + 1) - D.bP f) + (D.tV (f + 1) - D.tV f)) τ' ∧ frX [169, 171, 176] [72] [] τ0 τ' := by
  have hb4 := hF.1
  have hPf := hF.2.2 f hf
  have hlt := hPf.1.1
  have hlv' := hPf.1.2.1
  have hff := hR.1 f hf
  obtain ⟨s1, w4, a1, a2, a3⟩ := least_parts (L := L) (xs := xs) (H := H) hF hf hR hty hq hnm d (D.bP (f + 1) - D.bP f) (D.bP f) S τ0 (i32 (-1)) v4 (by omega) (Nat.le_refl _) (by omega) hZ frX.refl
  obtain ⟨s2, b1, b2, b3⟩ := least_vars (L := L) (xs := xs) (H := H) hF hf hR hty hq hnm lv hlv d (D.tV (f + 1) - D.tV f) (D.tV f) (S + (D.bP (f + 1) - D.bP f)) s1 (wfo (fun q => gbN G r (hC hl hv) (oM τ0 q)) (fun q => rd τ0 127 (D.lx q)) (D.bP (f + 1) - D.bP f) (D.bP f) (i32 (-1))) w4 (by omega) (Nat.le_refl _) (by omega) a2 a3
  refine ⟨s2, ?_, b2, b3⟩
  rw [e363_0, c_in (by omega) (by omega) (by omega), i32_ixn (by omega), hff.2.1.2.2.2.1, i32_raw, a1, e363_85, c_in (by omega) (by omega) (by omega), i32_ixn (by omega), a3.rd (j := 144) rfl, hff.2.1.2.2.2.2.2.1]
  exact b1
end LEAST
