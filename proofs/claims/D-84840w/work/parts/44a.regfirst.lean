/-! REGIONS, THE MODEL: all copies of calls are made -/
section REGFIRST
variable {L : Nat} {xs : Nat → Int32} {σ σ' τ τ' : tvS}
variable {K1 K2 Bc Bm f : Nat} {Rc Rm : Nat → Nat → Prop} {n u a : Nat} {D : pgD} {G : sgD} {m : Nat}
theorem mKd_call : ∀ x, x < 21 → (mKd x = 4 ↔ x = 3) := by decide
theorem reg_first (hF : PGF D m) (hf : f ≤ D.fc) {rl : Nat} (d : Nat) : ∀ (j p : Nat) (pd : List (Nat × List Nat × (Nat → Nat))) (rc : Nat) (T : tyJ) (τ : tvS) (v3 : Value), p + j = D.bP (f + 1) → D.bP f ≤ p → TYI K1 K2 Bc Bm f Rc Rm D G rl (D.bP (f + 1)) (D.bP (f + 1)) n u a pd rc T σ τ → (∀ q, D.bP f ≤ q → q < p → D.K q = 3 → D.vl q < f → ∃ n1 : Nat, rd τ 181 q = i32 (n1 : Int) ∧ n1 < 60000) →
    ∃ (τ' : tvS) (T' : tyJ) (pd' : List (Nat × List Nat × (Nat → Nat))) (rc' : Nat) (w2 w3 : Value), rn L xs (d + 7) 348 7 [.ref 123, .int (i32 (f : Int)), .int (i32 (p : Int)), v3] [] τ = rn L xs (d + 7) 348 51 [.ref 123, .int (i32 (f : Int)), w2, w3] [] τ' ∧ TYI K1 K2 Bc Bm f Rc Rm D G rl (D.bP (f + 1)) (D.bP (f + 1)) n u a pd' rc' T' σ τ' ∧ exT Bc Bm T T' ∧ (∀ q, D.bP f ≤ q → q < D.bP (f + 1) → D.K q = 3 → D.vl q < f → ∃ n1 : Nat, rd τ' 181 q = i32 (n1 : Int) ∧ n1 < 60000) ∧ frM FMO FMF τ τ' ∧ T'.1 = T.1 ∧ ORm D f τ τ' := by
  have hb4 := hF.1
  have hbl := (hF.le (D.fc + 1 - (f + 1)) (f + 1) (by omega))
  have hV := hF.V hf
  intro j
  induction j with
  | zero =>
    intro p pd rc T τ v3 e hp hI hd
    have e : p = D.bP (f + 1) := by omega
    subst e
    have hfr := hI.2.1.1 f hf
    refine ⟨τ, T, pd, rc, .int (i32 (D.bP (f + 1) : Int)), v3, ?_, hI, exT.refl, hd, frM.refl, rfl, ORm.refl⟩
    rw [e348_7 (d + 6), i32_up, c_in (by omega) (by omega) (by omega), i32_ixn (by omega), hfr.2.1.2.2.2.2.1, c2_ge (by omega) (by omega) (by omega) (by omega), c_t (by omega)]
  | succ j ih =>
    intro p pd rc T τ v3 e hp hI hd
    have hI0 := hI
    obtain ⟨hT, hR, hO, ⟨Nk, ce, Nm, cm, hC⟩, hS⟩ := hI
    have hfr := hR.1 f hf
    have hPp := (hF.2.2 f hf).2.2.1 p hp (by omega)
    have hRp := hR.2 p (by omega)
    have hk20 := hPp.1.1
    have hmk := mKd_call (D.K p) (by omega)
    have hmb : mKd (D.K p) < 14 := by
      have : ∀ x, x < 21 → mKd x < 14 := by decide
      exact this _ (by omega)
    by_cases q : D.K p = 3 ∧ D.vl p < f
    · obtain ⟨q3, qf⟩ := q
      have e157 := (hRp.2.2.2.2.1 (.inr (.inl q3))).2
      obtain ⟨n0, n1, t1, T1, pd1, rc1, Nm1, cm1, j1, j2, j3, j4, j5, j6, j7, j8, j9, j10, j11⟩ := callget (L := L) (xs := xs) hT hF hf hR hO hC hp (show p < D.bP (f + 1) by omega) (by omega) (by omega) q3 qf d jv jv
      have hI1 : TYI K1 K2 Bc Bm f Rc Rm D G rl (D.bP (f + 1)) (D.bP (f + 1)) n u a pd1 rc1 T1 σ t1 := ⟨j2, hR.fr (S := []) (T := []) (F := []) frT.refl j9 rfl rfl, (hO.ex j3).to hV (fun _ _ _ => rfl) (fun _ _ => rfl) rfl (fun j hj i => j9.rd (j := j) (inL_off rfl j hj) i) (fun v _ => j9.rd (j := 179) rfl v), ⟨Nk, ce, Nm1, cm1, j4⟩, (hS.ex j3).to (fun _ _ _ => rfl) (fun j hj i => j9.rd (j := j) (inL_off rfl j hj) i)⟩
      have hcn : D.cn G p = D.bk (D.vl p) + 1 + G.ng (D.vl p) := rfl
      have h60 := j4.2.2.1.2.1
      obtain ⟨τ', T', pd', rc', w2, w3, z1, z2, z3, z4, z5, z6, z7⟩ := ih (p + 1) pd1 rc1 T1 t1 (.int (i32 (n1 : Int))) (by omega) (by omega) hI1 (fun r h1 h2 h3 h4 => by
        by_cases er : r = p
        · rw [er]; exact ⟨n1, j7.2.1, by have := j7.1; omega⟩
        · obtain ⟨x, x1, x2⟩ := hd r h1 (by omega) h3 h4
          exact ⟨x, (j7.2.2 r er).trans x1, x2⟩)
      refine ⟨τ', T', pd', rc', w2, w3, ?_, z2, j3.trans z3, z4, (j9.sub rfl rfl).trans z5, z6.trans j10, j11.trans z7⟩
      rw [e348_7 (d + 6), i32_up, c_in (by omega) (by omega) (by omega), i32_ixn (by omega), hfr.2.1.2.2.2.2.1, c2_ge (by omega) (by omega) (by omega) (by omega), c_f (by omega), c_in (by omega) (by omega) (by omega), i32_ixn (by omega), hRp.1.2.1, show (4 : Int32) = i32 4 from rfl, c2_ne (by omega) (by omega) (by omega) (by omega), c_f (by omega), c_in (by omega) (by omega) (by omega), e157, c2_eq (by omega) (by omega) (by omega) (by omega), c_f (by omega), bI_ok j1, e348_45 (d + 6), i32_up]
      exact z1
    · obtain ⟨τ', T', pd', rc', w2, w3, z1, z⟩ := ih (p + 1) pd rc T τ v3 (by omega) (by omega) hI0 (fun r h1 h2 h3 h4 => hd r h1 (by
        have : r ≠ p := fun er => q (by subst er; exact ⟨h3, h4⟩)
        omega) h3 h4)
      refine ⟨τ', T', pd', rc', w2, w3, ?_, z⟩
      rw [e348_7 (d + 6), i32_up, c_in (by omega) (by omega) (by omega), i32_ixn (by omega), hfr.2.1.2.2.2.2.1, c2_ge (by omega) (by omega) (by omega) (by omega), c_f (by omega), c_in (by omega) (by omega) (by omega), i32_ixn (by omega), hRp.1.2.1, show (4 : Int32) = i32 4 from rfl, c2_ne (by omega) (by omega) (by omega) (by omega)]
      by_cases q3 : D.K p = 3
      · have e157 := (hRp.2.2.2.2.1 (.inr (.inl q3))).2
        have hvl := hPp.2.2.2.1 q3
        rw [c_f (by omega), c_in (by omega) (by omega) (by omega), e157, c2_eq (by omega) (by omega) (by omega) (by omega), c_t (by omega), e348_45 (d + 6), i32_up]
        exact z1
      · rw [c_t (by omega), e348_45 (d + 6), i32_up]
        exact z1
end REGFIRST
