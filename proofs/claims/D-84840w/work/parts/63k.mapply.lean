/-! RUNS, MODEL: applications -/
section MAPPLY
variable {L : Nat} {xs : Nat → Int32} {τ τ' τ0 τ1 : tvS} {D : pgD} {rg : rgD} {cd : cdD} {vd : Nat → Nat} {N m : Nat} {G : tG} {rr : Nat → Nat} {X X' : dyD} {K : List (Nat × Nat × Nat)} {n n' nr i st mt wd pgs ev fil f p r Nq sz o b g : Nat} {s : cSt} {fn : Nat → Nat × Nat} {oa : Nat → Nat}
/-- whose fn it is -/
theorem whose_m (hPG : PGF D m) (h143 : ∀ f, f ≤ D.fc → rd τ 143 (f + 1) = i32 (D.bP (f + 1) : Int)) (hf : f ≤ D.fc) (h1 : D.bP f ≤ p) (h2 : p < D.bP (f + 1)) (v1 v3 v6 : Value) (x2 : Int32) (d : Nat) : ∀ (j k : Nat), k + j = f → rn L xs (d + 1) 416 29 [.ref 123, v1, .int x2, v3, .int (i32 (p : Int)), .int (i32 (k : Int)), v6] [] τ = rn L xs (d + 1) 416 49 [.ref 123, v1, .int x2, v3, .int (i32 (p : Int)), .int (i32 (f : Int)), v6] [] τ := by
  have hfc2 := hPG.1.1
  have hb4 := hPG.1.2.2.1
  have hle : ∀ k, k ≤ D.fc → D.bP (k + 1) ≤ D.bP (D.fc + 1) := fun k hk => (hPG.le (D.fc + 1 - (k + 1)) (k + 1) (by omega)).1
  intro j
  induction j with
  | zero =>
    intro k hk
    have e : k = f := by omega
    subst e
    have := hle k hf
    rw [e416_29, i32_up, c_in (by omega) (by omega) (by omega), i32_ixn (by omega), h143 k hf, c2_lt (by omega) (by omega) (by omega) (by omega), c_t (by omega)]
  | succ j ih =>
    intro k hk
    have h3 := hle k (by omega)
    have h3' := hle f hf
    have h4 : D.bP (k + 1) ≤ D.bP f := by
      have : ∀ q, k + 1 + q ≤ D.fc + 1 → D.bP (k + 1) ≤ D.bP (k + 1 + q) := by
        intro q
        induction q with
        | zero => intro _; exact Nat.le_refl _
        | succ q ihq =>
          intro hq
          have := ihq (by omega)
          have := (hPG.2.2 (k + 1 + q) (by omega)).1.1
          show D.bP (k + 1) ≤ D.bP (k + 1 + q + 1)
          omega
      have := this (f - (k + 1)) (by omega)
      rw [show k + 1 + (f - (k + 1)) = f by omega] at this
      exact this
    rw [e416_29, i32_up, c_in (by omega) (by omega) (by omega), i32_ixn (by omega), h143 k (by omega), c2_lt (by omega) (by omega) (by omega) (by omega), c_f (by omega)]
    exact ih (k + 1) (by omega)
/-- what is caught is told -/
theorem acau_loop {cf : Nat} {cl : List Nat} (hi : i + 1 ≤ 300) (hp : p < 6000) (hcl : cl.length ≤ 100) (hcf : cf + cl.length ≤ 30000) (h196 : rd τ0 196 p = i32 (cf : Int)) (h197 : rd τ0 197 p = i32 (cl.length : Int)) (h198 : ∀ j, j < cl.length → rd τ0 198 (cf + j) = i32 ((cl.getD j 0 : Nat) : Int)) (h147 : ∀ j, j < cl.length → cl.getD j 0 < 3002 ∧ rd τ0 147 (cl.getD j 0) = i32 (vd (cl.getD j 0) : Int) ∧ vd (cl.getD j 0) < 64) (hinj : ∀ j j', j < cl.length → j' < cl.length → vd (cl.getD j 0) = vd (cl.getD j' 0) → j = j') (h139 : rd τ0 123 139 = i32 ((i + 1 : Nat) : Int)) (v1 v3 : Value) (x2 : Int32) (d : Nat) :
    ∀ (j t : Nat) (τ : tvS) (v5 : Value), t + j = cl.length → frM [212] [] τ0 τ → (∀ q, q < 64 * (i + 1) → rd τ 212 q = rd τ0 212 q) → (∀ q, q < t → rd τ 212 (64 * (i + 1) + vd (cl.getD q 0)) = i32 (-2 - (q : Int))) →
      ∃ τ' v5' v6', rn L xs (d + 1) 416 77 [.ref 123, v1, .int x2, v3, .int (i32 (p : Int)), v5, .int (i32 (t : Int))] [] τ = rn L xs (d + 1) 416 133 [.ref 123, v1, .int x2, v3, .int (i32 (p : Int)), v5', v6'] [] τ' ∧ frM [212] [] τ0 τ' ∧ (∀ q, q < 64 * (i + 1) → rd τ' 212 q = rd τ0 212 q) ∧ ∀ q, q < cl.length → rd τ' 212 (64 * (i + 1) + vd (cl.getD q 0)) = i32 (-2 - (q : Int)) := by
  intro j
  induction j with
  | zero =>
    intro t τ v5 ht w ho hn
    have e : t = cl.length := by omega
    subst e
    refine ⟨τ, v5, .int (i32 (cl.length : Int)), ?_, w, ho, hn⟩
    rw [e416_77, c_in (by omega) (by omega) (by omega), i32_ixn (by omega), w.rd (j := 197) rfl, h197, c2_ge (by omega) (by omega) (by omega) (by omega), c_t (by omega)]
  | succ j ih =>
    intro t τ v5 ht w ho hn
    obtain ⟨g1, g2, g3⟩ := h147 t (by omega)
    have e1 : i32 (cf : Int) + i32 (t : Int) = i32 ((cf + t : Nat) : Int) := by rw [i32_add]; congr 1
    have e64 : (64 : Int32) * i32 ((i + 1 : Nat) : Int) + i32 (vd (cl.getD t 0) : Int) = i32 ((64 * (i + 1) + vd (cl.getD t 0) : Nat) : Int) := by rw [show (64 : Int32) = i32 64 from rfl, i32_mul, i32_add]; congr 1
    have em2 : (Int8.ofInt (-2)).toInt32 - i32 (t : Int) = i32 (-2 - (t : Int)) := by rw [show (Int8.ofInt (-2)).toInt32 = i32 (-2) from rfl, i32_sub]
    obtain ⟨τ', v5', v6', b1, b2, b3, b4⟩ := ih (t + 1) (wr τ 212 (64 * (i + 1) + vd (cl.getD t 0)) (i32 (-2 - (t : Int)))) (jk v5) (by omega) (w.trans (frM_wr rfl (by decide))) (fun q hq => by rw [wr_nei (by omega)]; exact ho q hq) (fun q hq => by
      by_cases e : q = t
      · subst e; rw [wr_self]
      · have hne : vd (cl.getD q 0) ≠ vd (cl.getD t 0) := fun h => e (hinj q t (by omega) (by omega) h)
        rw [wr_nei (by omega)]; exact hn q (by omega))
    refine ⟨τ', v5', v6', ?_, b2, b3, b4⟩
    rw [e416_77, c_in (by omega) (by omega) (by omega), i32_ixn (by omega), w.rd (j := 197) rfl, h197, c2_ge (by omega) (by omega) (by omega) (by omega), c_f (by omega), c_in (by omega) (by omega) (by omega), w.rd (j := 196) rfl, h196, e1, c_in (by omega) (by omega) (by omega), i32_ixn (by omega), w.rd (j := 198) rfl, h198 t (by omega), c_in (by omega) (by omega) (by omega), i32_ixn (by omega), w.2 139 rfl, h139, w.rd (j := 147) rfl, g2, e64, c_in (by omega) (by omega) (by omega), i32_ixn (by omega), em2, i32_up]
    exact b1
/-- what is kept is told -/
theorem akep_loop {kf a cl : Nat} {kl : List Nat} {ks : List (Nat × Nat)} (hi : i + 1 ≤ 300) (hp : p < 6000) (ho1 : o ≤ 30000) (hkl : kl.length ≤ 60) (hkf : kf + kl.length ≤ 40000) (h197 : rd τ0 197 p = i32 (cl : Int)) (h199 : rd τ0 199 p = i32 (kf : Int)) (h200 : rd τ0 200 p = i32 (kl.length : Int)) (h201 : ∀ j, j < kl.length → rd τ0 201 (kf + j) = i32 ((kl.getD j 0 : Nat) : Int)) (hk64 : ∀ j, j < kl.length → kl.getD j 0 < 64) (hnd : kl.Nodup) (hks : ks.length = kl.length) (h230 : rd τ0 230 o = i32 (a : Int)) (ha : a + cl + kl.length ≤ 200200) (h235 : ∀ t r' s' : Nat, ks[t]? = some (r', s') → rd τ0 235 (a + cl + t) = i32 (r' : Int)) (h139 : rd τ0 123 139 = i32 ((i + 1 : Nat) : Int)) (v1 v3 : Value) (d : Nat) :
    ∀ (j t : Nat) (τ : tvS) (v5 : Value), t + j = kl.length → frM [213] [] τ0 τ → (∀ q, q < 64 * (i + 1) → rd τ 213 q = rd τ0 213 q) → (∀ q r' s' : Nat, q < t → ks[q]? = some (r', s') → rd τ 213 (64 * (i + 1) + kl.getD q 0) = i32 (r' : Int)) →
      ∃ τ' v5' v6', rn L xs (d + 1) 416 167 [.ref 123, v1, .int (i32 (o : Int)), v3, .int (i32 (p : Int)), v5, .int (i32 (t : Int))] [] τ = rn L xs (d + 1) 416 235 [.ref 123, v1, .int (i32 (o : Int)), v3, .int (i32 (p : Int)), v5', v6'] [] τ' ∧ frM [213] [] τ0 τ' ∧ (∀ q, q < 64 * (i + 1) → rd τ' 213 q = rd τ0 213 q) ∧ ∀ q r' s' : Nat, ks[q]? = some (r', s') → rd τ' 213 (64 * (i + 1) + kl.getD q 0) = i32 (r' : Int) := by
  intro j
  induction j with
  | zero =>
    intro t τ v5 ht w ho hn
    have e : t = kl.length := by omega
    subst e
    refine ⟨τ, v5, .int (i32 (kl.length : Int)), ?_, w, ho, fun q r' s' hq => hn q r' s' (by rw [← hks]; exact (List.getElem?_eq_some_iff.mp hq).1) hq⟩
    rw [e416_167, c_in (by omega) (by omega) (by omega), i32_ixn (by omega), w.rd (j := 200) rfl, h200, c2_ge (by omega) (by omega) (by omega) (by omega), c_t (by omega)]
  | succ j ih =>
    intro t τ v5 ht w ho hn
    have g3 := hk64 t (by omega)
    have hlt : t < ks.length := by omega
    obtain ⟨⟨r0, s0⟩, hrs⟩ : ∃ y, ks[t]? = some y := ⟨_, List.getElem?_eq_getElem hlt⟩
    have y := h235 t r0 s0 hrs
    have e1 : i32 (kf : Int) + i32 (t : Int) = i32 ((kf + t : Nat) : Int) := by rw [i32_add]; congr 1
    have e2 : (i32 (a : Int) + i32 (cl : Int)) + i32 (t : Int) = i32 ((a + cl + t : Nat) : Int) := by rw [i32_add, i32_add]; congr 1
    have e64 : (64 : Int32) * i32 ((i + 1 : Nat) : Int) + i32 (kl.getD t 0 : Int) = i32 ((64 * (i + 1) + kl.getD t 0 : Nat) : Int) := by rw [show (64 : Int32) = i32 64 from rfl, i32_mul, i32_add]; congr 1
    obtain ⟨τ', v5', v6', b1, b2, b3, b4⟩ := ih (t + 1) (wr τ 213 (64 * (i + 1) + kl.getD t 0) (i32 (r0 : Int))) (jk v5) (by omega) (w.trans (frM_wr rfl (by decide))) (fun q hq => by rw [wr_nei (by omega)]; exact ho q hq) (fun q r' s' hq hq2 => by
      by_cases e : q = t
      · subst e
        have e3 : (r0, s0) = (r', s') := by rw [hrs] at hq2; injection hq2
        rw [wr_self, show r0 = r' from congrArg Prod.fst e3]
      · have hne : kl.getD q 0 ≠ kl.getD t 0 := fun h => e (by
          have h1 := idx_at hnd (show q < kl.length by omega)
          have h2 := idx_at hnd (show t < kl.length by omega)
          rw [h] at h1; omega)
        rw [wr_nei (by omega)]; exact hn q r' s' (by omega) hq2)
    refine ⟨τ', v5', v6', ?_, b2, b3, b4⟩
    rw [e416_167, c_in (by omega) (by omega) (by omega), i32_ixn (by omega), w.rd (j := 200) rfl, h200, c2_ge (by omega) (by omega) (by omega) (by omega), c_f (by omega), c_in (by omega) (by omega) (by omega), w.rd (j := 199) rfl, h199, e1, c_in (by omega) (by omega) (by omega), c_in (by omega) (by omega) (by omega), c_in (by omega) (by omega) (by omega), i32_ixn (by omega), i32_ixn (by omega), w.rd (j := 230) rfl, h230, w.rd (j := 197) rfl, h197, e2, c_in (by omega) (by omega) (by omega), w.rd (j := 201) rfl, h201 t (by omega), w.2 139 rfl, h139, e64, c_in (by omega) (by omega) (by omega), i32_ixn (by omega), i32_ixn (by omega), w.rd (j := 235) rfl, y, i32_up]
    exact b1
/-- an application -/
theorem appl_m {k0 : Nat} (hRS : RSm D rg cd vd N G rr τ) (hPG : PGF D m) (hF : MFr X i τ) (hM : MSk fn s X n nr st oa fil mt pgs wd ev τ) (hC : MCt K τ) (hK : K.length + 10 < 130000) (hno : X.no ≤ 30000) (hn : 2 ≤ n) (ho : X.sv (n - 2) = (2, i32 (o : Int))) (h1 : 1 ≤ o) (h2 : o ≤ X.no) (hg : (X.hp o).gi < nr) (hs : X.ser (X.hp o).gi = (X.hp o).se) (hf : f ≤ D.fc) (hp : (X.hp o).pt = p) (hp1 : D.bP f ≤ p) (hp2 : p < D.bP (f + 1)) (hk : D.K p = 17) (hkd : D.kd p = [k0]) (hw : WFo D rg cd (X.hp o)) (hkd3 : (X.hp o).kd = 3) (hkl : (rg.kp (D.vl p)).length ≤ 60) (hk64 : ∀ j, j < (rg.kp (D.vl p)).length → (rg.kp (D.vl p)).getD j 0 < 64) (hndk : (rg.kp (D.vl p)).Nodup) (hcl : ∀ v, v ∈ cd.cg (D.vl p) → v < D.tV (D.fc + 1)) (hgv : D.gv (D.vl p) < D.tV (D.fc + 1)) (hndc : (cd.cg (D.vl p)).Nodup) (hvi : ∀ v v', v ∈ cd.cg (D.vl p) → v' ∈ cd.cg (D.vl p) → vd v = vd v' → v = v') (hvg : ∀ v, v ∈ cd.cg (D.vl p) → vd v ≠ vd (D.gv (D.vl p))) (d : Nat) :
    (i = 300 ∧ ∃ τ1 τ', rn L xs (d + 4) 416 0 [.ref 123, .int (i32 (n' : Int)), jv, jv, jv, jv, jv] [] τ = some (.inl none, τ') ∧ frM [] [130] τ τ1 ∧ rd τ1 123 130 = 0 ∧ MEn 4 τ1 τ') ∨
    (i < 300 ∧ ∃ τ', rn L xs (d + 4) 416 0 [.ref 123, .int (i32 (n' : Int)), jv, jv, jv, jv, jv] [] τ = some (.inl none, τ') ∧ MFr (apX D rg cd vd X i o (n - 2) f) (i + 1) τ' ∧ MCt ((0, k0, 0) :: (8, 0, 0) :: K) τ' ∧ frM [209, 210, 211, 212, 213, 214, 215] [130, 131, 135, 139] τ τ' ∧ rd τ' 123 130 = 0) := by
  have hfc2 := hPG.1.1
  have hbl := hPG.1
  have hble := (hPG.le (D.fc + 1 - (f + 1)) (f + 1) (by omega)).1
  obtain ⟨⟨s1, s2, s3⟩, hO, ⟨hR, hCn⟩, _⟩ := id hM
  obtain ⟨q3, q4⟩ := s3 (n - 2) (by omega)
  rw [ho] at q4
  have q4 : rd τ 208 (n - 2) = i32 (o : Int) := q4
  have en2 : i32 (n : Int) - 2 = i32 ((n - 2 : Nat) : Int) := by rw [show (2 : Int32) = i32 2 from rfl, i32_sub]; congr 1; omega
  have en1 : i32 (n : Int) - 1 = i32 ((n - 1 : Nat) : Int) := by rw [show (1 : Int32) = i32 1 from rfl, i32_sub]; congr 1; omega
  obtain ⟨y0, y0l, _, y0p⟩ := hO.2.2.2.1 o h1 h2
  have y229 := y0.2.2.2.2.1
  rw [hp] at y229
  have hfil := hO.2.2.1
  obtain ⟨⟨y1, y2, y3⟩, y4⟩ := hO.2.2.2.2.1 o ⟨n - 2, by omega, 0, ho, h1, h2⟩
  obtain ⟨f1, f2, f3, f4⟩ := id hF
  obtain ⟨wk1, wk2, _⟩ := hw.2.2.1 hkd3
  rw [hp] at wk1 wk2
  obtain ⟨cf, kf, p1, p2, p3, p4, p5, p6, p7, p8⟩ := (hRS.2.2.2.2 f p hf hp1 hp2).2.2 hk
  have hRp := hRS.2.2.1 p (by omega)
  have e157 := hRp.2.2.2.2.1 hk
  have e154 : rd τ 154 p = i32 (k0 : Int) := by rw [hRp.2.1 (by omega) 0 (by omega)]; exact kid_i (by rw [hkd]; rfl)
  obtain ⟨gv1, gv2⟩ := hRS.2.2.2.1 _ hgv
  obtain ⟨τ1, a1, a2, a3⟩ := stray_m (L := L) (xs := xs) hO hR hCn h1 h2 hno hg hs jv jv (d + 2)
  have h130 : rd τ1 123 130 = 0 := a3.2.2.2.2.2.2.2
  have hF1 := hF.fr a2 rfl rfl rfl rfl rfl rfl
  have hw49 : ∀ v6 : Value, rn L xs (d + 4) 416 0 [.ref 123, .int (i32 (n' : Int)), jv, jv, jv, jv, jv] [] τ = rn L xs (d + 4) 416 49 [.ref 123, .int (i32 (n' : Int)), .int (i32 (o : Int)), .int 0, .int (i32 (p : Int)), .int (i32 (f : Int)), dj jv] [] τ1 := fun _ => by
    have := whose_m (L := L) (xs := xs) (τ := τ1) hPG (fun f' hf' => by rw [a2.rd (j := 143) rfl]; exact (hRS.2.1 f' hf').1.2.1) hf hp1 hp2 (.int (i32 (n' : Int))) (.int 0) (dj jv) (i32 (o : Int)) (d + 3) f 0 (by omega)
    rw [e416_0 (d + 3), s1, en2, c_in (by omega) (by omega) (by omega), i32_ixn (by omega), q4, bI_ok a1, c_in (by omega) (by omega) (by omega), i32_ixn (by omega), a2.rd (j := 229) rfl, y229]
    exact this
  rcases down_m (L := L) (xs := xs) (g := f) hF1 (hC.fr a2 rfl rfl rfl rfl) (by omega) (d + 1) with ⟨c1, τ', c2, c3⟩ | ⟨c1, τ2, c2, c3, c4, c5, c6, c7, c8, c9⟩
  · refine .inl ⟨c1, τ1, τ', ?_, a2, h130, c3⟩
    rw [hw49 jv, e416_49 (d + 3), bI_ok c2]; rfl
  · obtain ⟨τ3, e3⟩ : ∃ τ3, τ3 = wr τ2 214 (i + 1) (i32 ((n - 2 : Nat) : Int)) := ⟨_, rfl⟩
    have w23 : frM [214] [] τ2 τ3 := by rw [e3]; exact frM_wr rfl (by decide)
    have w03 : frM [209, 210, 211, 214, 215] [130, 131, 135, 139] τ τ3 := ((a2.sub rfl rfl).trans (c9.sub rfl rfl)).trans (w23.sub rfl rfl)
    have h139 : rd τ3 123 139 = i32 ((i + 1 : Nat) : Int) := by rw [w23.2 139 rfl]; exact c3
    have s132 : ∀ τ', frM [212] [] τ3 τ' → rd τ' 123 132 = i32 (n : Int) := fun τ' w => by rw [w.2 132 rfl, w03.2 132 rfl]; exact s1
    have hclm : ∀ j, j < (cd.cg (D.vl p)).length → (cd.cg (D.vl p)).getD j 0 ∈ cd.cg (D.vl p) := fun j hj => getD_mem hj
    obtain ⟨τ4, v5', v6', b1, b2, b3, b4⟩ := acau_loop (L := L) (xs := xs) (τ0 := τ3) (cl := cd.cg (D.vl p)) (vd := vd) (i := i) (p := p) (by omega) (by omega) (by omega) p1 (by rw [w03.rd (j := 196) rfl]; exact p3) (by rw [w03.rd (j := 197) rfl]; exact p4) (fun j hj => by rw [w03.rd (j := 198) rfl]; exact p5 j hj) (fun j hj => by
      have := hcl _ (hclm j hj)
      obtain ⟨g1, g2⟩ := hRS.2.2.2.1 _ this
      exact ⟨by omega, by rw [w03.rd (j := 147) rfl]; exact g1, g2⟩) (fun j j' hj hj' he => by
      have h1 := idx_at hndc hj
      have h2 := idx_at hndc hj'
      rw [hvi _ _ (hclm j hj) (hclm j' hj') he] at h1; omega) h139 (dj (.int (i32 (n' : Int)))) (dj (.int 0)) (i32 (o : Int)) (d + 3) (cd.cg (D.vl p)).length 0 τ3 (jk (.int (i32 (f : Int)))) (by omega) frM.refl (fun _ _ => rfl) (fun q hq => by omega)
    have e64 : (64 : Int32) * i32 ((i + 1 : Nat) : Int) + i32 (vd (D.gv (D.vl p)) : Int) = i32 ((64 * (i + 1) + vd (D.gv (D.vl p)) : Nat) : Int) := by rw [show (64 : Int32) = i32 64 from rfl, i32_mul, i32_add]; congr 1
    obtain ⟨τ5, e5⟩ : ∃ τ5, τ5 = wr τ4 212 (64 * (i + 1) + vd (D.gv (D.vl p))) (i32 ((n - 1 : Nat) : Int)) := ⟨_, rfl⟩
    have w45 : frM [212] [] τ4 τ5 := by rw [e5]; exact frM_wr rfl (by decide)
    have w35 : frM [212] [] τ3 τ5 := b2.trans w45
    have w05 : frM [209, 210, 211, 212, 214, 215] [130, 131, 135, 139] τ τ5 := (w03.sub rfl rfl).trans (w35.sub rfl rfl)
    obtain ⟨τ6, v5'', v6'', d1, d2, d3, d4⟩ := akep_loop (L := L) (xs := xs) (τ0 := τ5) (kl := rg.kp (D.vl p)) (ks := (X.hp o).kp) (a := oa o) (cl := (cd.cg (D.vl p)).length) (o := o) (i := i) (p := p) (by omega) (by omega) (by omega) hkl p2 (by rw [w05.rd (j := 197) rfl]; exact p4) (by rw [w05.rd (j := 199) rfl]; exact p6) (by rw [w05.rd (j := 200) rfl]; exact p7) (fun j hj => by rw [w05.rd (j := 201) rfl]; exact p8 j hj) hk64 hndk wk2 (by rw [w05.rd (j := 230) rfl]; exact y1) (by omega) (fun t r' s' ht => by rw [w05.rd (j := 235) rfl, ← wk1]; exact y3 t r' s' ht) (by rw [w35.2 139 rfl]; exact h139) (dj (.int (i32 (n' : Int)))) (dj (.int 0)) (d + 3) (rg.kp (D.vl p)).length 0 τ5 (jk v5') (by omega) frM.refl (fun _ _ => rfl) (fun q r' s' hq => by omega)
    have w06 : frM [209, 210, 211, 212, 213, 214, 215] [130, 131, 135, 139] τ τ6 := (w05.sub rfl rfl).trans (d2.sub rfl rfl)
    have w26 : frM [212, 213, 214] [] τ2 τ6 := ((w23.sub rfl rfl).trans (w35.sub rfl rfl)).trans (d2.sub rfl rfl)
    have hl : ((8, 0, 0) :: K).length = K.length + 1 := rfl
    obtain ⟨τ7, g1, g2, g3⟩ := plan_m (L := L) (xs := xs) (c8.fr w26 rfl rfl rfl rfl) (by omega) (0, k0, 0) (d + 2)
    have g1 : rn L xs (d + 3) 397 0 [.ref 123, .int 0, .int (i32 (k0 : Int)), .int 0] [] τ6 = some (.inl none, τ7) := g1
    have w67 : ∀ j, j = 212 ∨ j = 213 ∨ j = 214 ∨ j = 215 → ∀ q, rd τ7 j q = rd τ6 j q := fun j hj q => by rcases hj with e | e | e | e <;> rw [e] <;> exact g3.rd rfl q
    have r214 : ∀ q, rd τ7 214 q = rd τ3 214 q := fun q => by rw [w67 214 (by omega), d2.rd (j := 214) rfl, w35.rd (j := 214) rfl]
    have r215 : ∀ q, rd τ7 215 q = rd τ2 215 q := fun q => by rw [w67 215 (by omega), w26.rd (j := 215) rfl]
    have r212 : ∀ q, rd τ7 212 q = rd τ5 212 q := fun q => by rw [w67 212 (by omega), d2.rd (j := 212) rfl]
    refine .inr ⟨c1, τ7, ?_, ⟨?_, ?_, by omega, fun j hj => ?_⟩, g2, (w06.sub rfl rfl).trans (g3.sub rfl rfl), by rw [g3.2 130 rfl, w26.2 130 rfl, c9.2 130 rfl]; exact h130⟩
    · have b1 : rn L xs (d + 4) 416 77 [.ref 123, dj (.int (i32 (n' : Int))), .int (i32 (o : Int)), dj (.int 0), .int (i32 (p : Int)), jk (.int (i32 (f : Int))), .int 0] [] τ3 = rn L xs (d + 4) 416 133 [.ref 123, dj (.int (i32 (n' : Int))), .int (i32 (o : Int)), dj (.int 0), .int (i32 (p : Int)), v5', v6'] [] τ4 := b1
      have d1 : rn L xs (d + 4) 416 167 [.ref 123, dj (.int (i32 (n' : Int))), .int (i32 (o : Int)), dj (.int 0), .int (i32 (p : Int)), jk v5', .int 0] [] τ5 = rn L xs (d + 4) 416 235 [.ref 123, dj (.int (i32 (n' : Int))), .int (i32 (o : Int)), dj (.int 0), .int (i32 (p : Int)), v5'', v6''] [] τ6 := d1
      rw [hw49 jv, e416_49 (d + 3), bI_ok c2, show pv_c1 .ne (1 : Int32) = true from rfl, cond_true, e416_59, c3, c_in (by omega) (by omega) (by omega), i32_ixn (by omega), c9.2 132 rfl, a2.2 132 rfl, s1, en2, ← e3]
      rw [b1, e416_133, c_in (by omega) (by omega) (by omega), i32_ixn (by omega), b2.rd (j := 157) rfl, w03.rd (j := 157) rfl, e157, c_in (by omega) (by omega) (by omega), i32_ixn (by omega), b2.2 139 rfl, h139, b2.rd (j := 147) rfl, w03.rd (j := 147) rfl, gv1, e64, c_in (by omega) (by omega) (by omega), i32_ixn (by omega), s132 τ4 b2, en1, ← e5, d1, e416_235 (d + 3), c_in (by omega) (by omega) (by omega), i32_ixn (by omega), w06.rd (j := 154) rfl, e154, bV_ok g1]
    · rw [g3.2 139 rfl, w26.2 139 rfl]; exact c3
    · rw [g3.2 131 rfl, w26.2 131 rfl]; exact c4
    · by_cases e : j = i + 1
      · subst e
        have efr : (apX D rg cd vd X i o (n - 2) f).fr (i + 1) = (f, n - 2, (D.vl (X.hp o).pt : Int)) := uq_self
        refine ⟨?_, ?_, fun e he hv => ?_, fun k hk hv => ?_⟩
        · unfold dyD.ff; rw [efr, r215]; exact c5
        · unfold dyD.fj dyD.bs; rw [efr, r214, e3, wr_self, if_pos (show (0 : Int) ≤ (D.vl (X.hp o).pt : Int) by omega)]
        · have ev : (apX D rg cd vd X i o (n - 2) f).aV (i + 1) e = if e = vd (D.gv (D.vl p)) then ((n - 2 + 1 : Nat) : Int) else if e ∈ (cd.cg (D.vl p)).map vd then -2 - ((((cd.cg (D.vl p)).map vd).idxOf e : Nat) : Int) else 5000 := by rw [← hp]; exact if_pos rfl
          rw [ev] at hv ⊢
          by_cases q : e = vd (D.gv (D.vl p))
          · rw [if_pos q, r212, e5, q, wr_self, show n - 2 + 1 = n - 1 by omega]
          · rw [if_neg q] at hv ⊢
            by_cases q2 : e ∈ (cd.cg (D.vl p)).map vd
            · rw [if_pos q2, r212, e5, wr_nei (by omega)]
              have hlt := List.idxOf_lt_length_of_mem q2
              rw [List.length_map] at hlt
              have := b4 _ hlt
              have ek : vd ((cd.cg (D.vl p)).getD (((cd.cg (D.vl p)).map vd).idxOf e) 0) = e := by
                have h1 := List.getElem_idxOf (List.idxOf_lt_length_of_mem q2)
                rw [List.getElem_map] at h1
                rw [List.getD_eq_getElem?_getD, List.getElem?_eq_getElem hlt]; exact h1
              rw [ek] at this
              exact this
            · rw [if_neg q2] at hv; exact absurd hv (by omega)
        · have ev : (apX D rg cd vd X i o (n - 2) f).aR (i + 1) k = if k ∈ rg.kp (D.vl p) then (((X.hp o).kp.getD ((rg.kp (D.vl p)).idxOf k) (2000, 0)).1) else 2000 := by rw [← hp]; exact if_pos rfl
          rw [ev] at hv ⊢
          by_cases q : k ∈ rg.kp (D.vl p)
          · rw [if_pos q, w67 213 (by omega)]
            have hlt := List.idxOf_lt_length_of_mem q
            have hlt2 : (rg.kp (D.vl p)).idxOf k < (X.hp o).kp.length := by omega
            have ek : (rg.kp (D.vl p)).getD ((rg.kp (D.vl p)).idxOf k) 0 = k := by
              rw [List.getD_eq_getElem?_getD, List.getElem?_eq_getElem hlt]; exact List.getElem_idxOf hlt
            have := d4 ((rg.kp (D.vl p)).idxOf k) ((X.hp o).kp[(rg.kp (D.vl p)).idxOf k]).1 ((X.hp o).kp[(rg.kp (D.vl p)).idxOf k]).2 (List.getElem?_eq_getElem hlt2)
            rw [ek] at this
            rw [this, List.getD_eq_getElem?_getD, List.getElem?_eq_getElem hlt2]; rfl
          · rw [if_neg q] at hv; exact absurd hv (by omega)
      · have hj' : j ≤ i := by omega
        obtain ⟨x1, x2, x3, x4⟩ := f4 j hj'
        have efr : (apX D rg cd vd X i o (n - 2) f).fr j = X.fr j := uq_ne e
        have eV : ∀ e', (apX D rg cd vd X i o (n - 2) f).aV j e' = X.aV j e' := fun e' => if_neg e
        have eR : ∀ k, (apX D rg cd vd X i o (n - 2) f).aR j k = X.aR j k := fun k => if_neg e
        refine ⟨?_, ?_, fun e' he hv => ?_, fun k hk hv => ?_⟩
        · unfold dyD.ff at x1 ⊢; rw [efr, r215, (c7 j hj').1, a2.rd (j := 215) rfl]; exact x1
        · unfold dyD.fj dyD.bs at x2 ⊢; rw [efr, r214, e3, wr_nei (by omega), (c7 j hj').2, a2.rd (j := 214) rfl]; exact x2
        · rw [eV] at hv ⊢; rw [r212, e5, wr_nei (by omega), b3 _ (by omega), w03.rd (j := 212) rfl]; exact x3 e' he hv
        · rw [eR] at hv ⊢; rw [w67 213 (by omega), d3 _ (by omega), w05.rd (j := 213) rfl]; exact x4 k hk hv
end MAPPLY
