/-! TYPING, BOTH: all parts of a function -/
section TYPLOOP
variable {L : Nat} {xs : Nat → Int32} {σ σ' τ τ' : tvS}
variable {K1 K2 Bc Bm f : Nat} {Rc Rm : Nat → Nat → Prop} {n u a : Nat} {D : pgD} {G : sgD} {m : Nat}
theorem frM_fld {S F : List Nat} {i : Nat} {x : Int32} (h : inL F i = true) : frM S F τ (wr τ 123 i x) := by
  refine ⟨⟨fun j hj k => ?_, rfl⟩, fun k hk => ?_⟩
  · refine wr_nek (fun e => ?_)
    rw [e] at hj
    have hj : (Nat.beq 123 123 || inL S 123) = false := hj
    cases hj
  · exact wr_nei (fun e => by rw [e, h] at hk; cases hk)
def FCT : List Nat := [51, 52, 53, 54, 55, 56, 57, 58, 60, 61, 66, 67]
def FMT : List Nat := [166, 167, 168, 169, 170, 171, 172, 173, 174, 175, 176, 177, 178, 179, 181, 182, 183]
/-- the same fault of both, in the midst of a function's types -/
def TYF (K1 K2 : Nat) (σ τ : tvS) (R R' : tvR) : Prop := ∃ (σ0 τ' : tvS) (y : Int32), R = some (.inr (1016, (rm σ0).1), cFlt σ0 5 y) ∧ R' = some (.inl none, τ') ∧ rd τ' 123 5 = 5 ∧ rd τ' 123 6 = y ∧ RMQ K1 K2 σ0 ∧ frT FCT FTW [8, 12, 14] σ σ0 ∧ frM FMT (5 :: 6 :: FMF) τ τ'
theorem i32_up (k : Nat) : i32 (k : Int) + 1 = i32 ((k + 1 : Nat) : Int) := by rw [show (1 : Int32) = i32 1 from rfl, i32_add]; rfl
theorem typ_loop (hF : PGF D m) (hf : f ≤ D.fc) (hK2 : 6 ≤ K2) {rl : Nat} {T0 : tyJ} (d dm : Nat) : ∀ (j p : Nat) (pd : List (Nat × List Nat × (Nat → Nat))) (rc : Nat) (T : tyJ) (σ τ : tvS) (v2 v4 : Value), p + j = D.bP (f + 1) → D.bP f ≤ p → TYI K1 K2 Bc Bm f Rc Rm D G rl p p (n + 5 * j) u (a + j) pd rc T σ τ → GHO D G f p p T0 T σ → rd τ 123 5 = 0 → (∀ l, l < m → rd σ 13 l = rd τ 127 l) →
    (∃ (σ' τ' : tvS) (T' : tyJ) (pd' : List (Nat × List Nat × (Nat → Nat))) (rc' : Nat), rn L xs (d + 7) 142 171 [.ref 65, .int (i32 (f : Int)), v2, .int (i32 (p : Int)), v4] [] σ = some (.inl none, σ') ∧ rn L xs (dm + 9) 332 98 [.ref 123, .int (i32 (f : Int)), .int (i32 (p : Int))] [] τ = some (.inl none, τ') ∧ TYI K1 K2 Bc Bm f Rc Rm D G rl (D.bP (f + 1)) (D.bP (f + 1)) n u a pd' rc' T' σ' τ' ∧ frT FCT FTW [8, 12, 14] σ σ' ∧ frM FMT FMF τ τ' ∧ GHO D G f (D.bP (f + 1)) (D.bP (f + 1)) T0 T' σ' ∧ exT Bc Bm T T' ∧ ORc D f σ σ' ∧ ORm D f τ τ') ∨
    TYF K1 K2 σ τ (rn L xs (d + 7) 142 171 [.ref 65, .int (i32 (f : Int)), v2, .int (i32 (p : Int)), v4] [] σ) (rn L xs (dm + 9) 332 98 [.ref 123, .int (i32 (f : Int)), .int (i32 (p : Int))] [] τ) := by
  have hb4 := hF.1
  have hbl := (hF.le (D.fc + 1 - (f + 1)) (f + 1) (by omega))
  intro j
  induction j with
  | zero =>
    intro p pd rc T σ τ v2 v4 e hp hI hg h5 h13
    have e : p = D.bP (f + 1) := by omega
    subst e
    have hfr := hI.2.1.1 f hf
    refine .inl ⟨σ, τ, T, pd, rc, ?_, ?_, hI, frT.refl, frM.refl, hg, exT.refl, ORc.refl, ORm.refl⟩
    · rw [e142_171 (d + 6), c_in (by omega) (by omega) (by omega), i32_ixn (by omega), hfr.1.2.2.2.1, c2_ge (by omega) (by omega) (by omega) (by omega), c_t (by omega), e142_212]
    · rw [e332_98 (dm + 8), i32_up, c_in (by omega) (by omega) (by omega), i32_ixn (by omega), hfr.2.1.2.2.2.2.1, c2_ge (by omega) (by omega) (by omega) (by omega), c_t (by omega), e332_160]
  | succ j ih =>
    intro p pd rc T σ τ v2 v4 e hp hI hg h5 h13
    have hfr := hI.2.1.1 f hf
    have hlx := ((hF.2.2 f hf).2.2.1 p hp (by omega)).1.2.1
    obtain ⟨x, y, σ1, τ1, T1, pd1, rc1, a1, a2, a3, a4, a5, a6, a7, a8, a9, a10⟩ := own_step (L := L) (xs := xs) (n := n + 5 * j + 3) (a := a + j + 1) (p := p) (show TYI K1 K2 Bc Bm f Rc Rm D G rl p p (n + 5 * j + 3 + 2) u (a + j + 1) pd rc T σ τ from hI) hF hf hp (by omega) (d + 1) (dm + 1)
    have hPf := hF.2.2 f hf
    have hg1 := GHO.own (T0 := T0) hI hPf hg hp (by omega) a3.1 a6 a7 a8 a4
    have b4 : frT FCT FTW [8, 12, 14] σ (wr σ1 66 p (i32 (x : Int))) := (a4.sub rfl rfl rfl).trans (frT_wr rfl (by decide))
    have b5 : frM FMT FMF τ (wr τ1 178 p (i32 (y : Int))) := (a5.sub rfl rfl).trans (frM_wr rfl (by decide))
    have hc : rn L xs (d + 7) 142 171 [.ref 65, .int (i32 (f : Int)), v2, .int (i32 (p : Int)), v4] [] σ = bV (rn L xs (d + 6) 149 0 [.ref 65, .int (i32 (p : Int)), .int (i32 (f : Int)), jv, jv, jv] [] (wr σ1 66 p (i32 (x : Int)))) (fun s3 => rn L xs (d + 7) 142 171 [.ref 65, .int (i32 (f : Int)), (jk (dj (dj v2))), .int (i32 ((p + 1 : Nat) : Int)), .int (i32 (x : Int))] [] s3) X0 := by
      rw [e142_171 (d + 6), c_in (by omega) (by omega) (by omega), i32_ixn (by omega), hfr.1.2.2.2.1, c2_ge (by omega) (by omega) (by omega) (by omega), c_f (by omega), bI_ok a1, c_in (by omega) (by omega) (by omega), i32_ixn (by omega), i32_up]
    have hm : ∀ K : tvR → tvR, rn L xs (dm + 9) 332 98 [.ref 123, .int (i32 (f : Int)), .int (i32 (p : Int))] [] τ = bI (rn L xs (dm + 8) 340 0 [.ref 123, .int (i32 (f : Int)), .int (i32 (p : Int)), jv, jv, jv, jv, jv] [] (wr τ1 178 p (i32 (y : Int)))) (fun a4 s3 => cond (pv_c1 .ne a4) (rn L xs (dm + 9) 332 154 [.ref 123, .int (i32 (f : Int)), .int (i32 (p : Int))] [] s3) (cond (pv_in (i32 (p : Int)) 6000) (cond (pv_in (rd s3 152 (ix (i32 (p : Int)))) 3002) (bV (rn L xs (dm + 8) 291 0 [.ref 123, .int 5, .int (rd s3 127 (ix (rd s3 152 (ix (i32 (p : Int))))))] [] s3) (fun s5 => rn L xs (dm + 9) 332 154 [.ref 123, .int (i32 (f : Int)), .int (i32 (p : Int))] [] s5) X0) none) none)) X0 := fun _ => by
      rw [e332_98 (dm + 8), i32_up, c_in (by omega) (by omega) (by omega), i32_ixn (by omega), hfr.2.1.2.2.2.2.1, c2_ge (by omega) (by omega) (by omega) (by omega), c_f (by omega), h5, show pv_c1 .ne (0 : Int32) = false from rfl, cond_false, bI_ok (a2 jv), c_in (by omega) (by omega) (by omega), i32_ixn (by omega)]
    have hm := hm id
    rcases place_step (L := L) (xs := xs) (n := n + 5 * j) (a := a + j) (p := p) a3 hF hf hp (by omega) hK2 d dm with ⟨σ0, τ2, q1, q2, q3, q4, q5⟩ | ⟨σ2, τ2, T2, pd2, rc2, q1, q2, q3, q4, q5, q6, q7, q8, q9, q10, q11⟩
    · right
      have w5 : frM FMT FMF τ τ2 := b5.trans (q5.sub rfl rfl)
      have r152 : rd τ2 152 p = i32 (D.lx p : Int) := by rw [w5.rd (j := 152) rfl]; exact (hI.2.1.2 p (by omega)).1.2.2.2.1
      have r5 : rd τ2 123 5 = 0 := (w5.2 5 rfl).trans h5
      have r127 : rd τ2 127 (D.lx p) = rd σ 13 (D.lx p) := by rw [w5.rd (j := 127) rfl]; exact (h13 _ hlx).symm
      have e13 : rd (wr σ1 66 p (i32 (x : Int))) 13 (D.lx p) = rd σ 13 (D.lx p) := b4.rd (j := 13) rfl _
      have p291 : rn L xs (dm + 8) 291 0 [.ref 123, .int 5, .int (rd σ 13 (D.lx p))] [] τ2 = some (.inl none, wr (wr τ2 123 5 5) 123 6 (rd σ 13 (D.lx p))) := by
        rw [e291_0 (dm + 7), r5, show pv_c1 .ne (0 : Int32) = false from rfl, cond_false, e291_17]
      have h5' : rd (wr (wr τ2 123 5 5) 123 6 (rd σ 13 (D.lx p))) 123 5 = 5 := by rw [wr_nei (by omega), wr_self]
      have r143 : rd (wr (wr τ2 123 5 5) 123 6 (rd σ 13 (D.lx p))) 143 (f + 1) = i32 (D.bP (f + 1) : Int) := by
        rw [wr_nek (by omega), wr_nek (by omega), w5.rd (j := 143) rfl]; exact hfr.2.1.2.2.2.2.1
      refine ⟨σ0, wr (wr τ2 123 5 5) 123 6 (rd σ 13 (D.lx p)), rd σ 13 (D.lx p), by rw [hc, bV_ex q1, e13]; rfl, ?_, h5', wr_self _ _ _ _, q3, b4.trans (q4.sub rfl rfl rfl), ?_⟩
      · rw [hm, bI_ok q2, show pv_c1 .ne (0 : Int32) = false from rfl, cond_false, c_in (by omega) (by omega) (by omega), i32_ixn (by omega), r152, c_in (by omega) (by omega) (by omega), i32_ixn (by omega), r127, bV_ok p291, e332_154 (dm + 8), i32_up, e332_98 (dm + 8), i32_up, c_in (by omega) (by omega) (by omega), i32_ixn (by omega), r143, h5', show pv_c1 .ne (5 : Int32) = true from rfl, cond_true]
        cases pv_c2 .ge (i32 ((p + 1 : Nat) : Int)) (i32 (D.bP (f + 1) : Int)) <;> rw [e332_160] <;> rfl
      · exact (w5.sub rfl rfl).trans ((frM_fld rfl).trans (frM_fld rfl))
    · have w4 : frT FCT FTW [8, 12, 14] σ σ2 := b4.trans (q4.sub rfl rfl rfl)
      have w5 : frM FMT FMF τ τ2 := b5.trans (q5.sub rfl rfl)
      have hcc : rn L xs (d + 7) 142 171 [.ref 65, .int (i32 (f : Int)), v2, .int (i32 (p : Int)), v4] [] σ = rn L xs (d + 7) 142 171 [.ref 65, .int (i32 (f : Int)), (jk (dj (dj v2))), .int (i32 ((p + 1 : Nat) : Int)), .int (i32 (x : Int))] [] σ2 := by rw [hc, bV_ok q1]
      have hmm : rn L xs (dm + 9) 332 98 [.ref 123, .int (i32 (f : Int)), .int (i32 (p : Int))] [] τ = rn L xs (dm + 9) 332 98 [.ref 123, .int (i32 (f : Int)), .int (i32 ((p + 1 : Nat) : Int))] [] τ2 := by
        rw [hm, bI_ok q2, show pv_c1 .ne (1 : Int32) = true from rfl, cond_true, e332_154 (dm + 8), i32_up]
      rw [hcc, hmm]
      rcases ih (p + 1) pd2 rc2 T2 σ2 τ2 (jk (dj (dj v2))) (.int (i32 (x : Int))) (by omega) (by omega) q3 (GHO.place a3 hPf hg1 hp (by omega) q3.1 q6 q7 q8 q4) ((w5.2 5 rfl).trans h5) (fun l hl => by rw [w4.rd (j := 13) rfl, w5.rd (j := 127) rfl]; exact h13 l hl) with ⟨σ3, τ3, T3, pd3, rc3, z1, z2, z3, z4, z5, z6, z7, z8, z9⟩ | ⟨σ0, τ3, yy, z1, z2, z3, z4, z5, z6, z7⟩
      · exact .inl ⟨σ3, τ3, T3, pd3, rc3, z1, z2, z3, w4.trans z4, w5.trans z5, z6, a9.trans (q9.trans z7), (ORc.trans (ORc.G a4.1 rfl) (ORc.trans ⟨fun i hi => ⟨wr_nei (by omega), wr_nek (by decide)⟩, fun _ _ => wr_nek (by decide), fun _ _ => wr_nek (by decide), by rw [wr_nek (by decide)]; exact Int.le_refl _, fun _ _ => wr_nek (by decide), fun _ _ => wr_nek (by decide)⟩ q10)).trans z8, (ORm.trans a10 (ORm.trans ⟨fun i hi => ⟨wr_nei (by omega), wr_nek (by decide)⟩, fun _ _ => wr_nek (by decide), fun _ _ => wr_nek (by decide), by rw [wr_nek (by decide)]; exact Int.le_refl _, fun _ _ => wr_nek (by decide)⟩ q11)).trans z9⟩
      · exact .inr ⟨σ0, τ3, yy, z1, z2, z3, z4, z5, w4.trans z6, (w5.sub rfl rfl).trans z7⟩
end TYPLOOP
