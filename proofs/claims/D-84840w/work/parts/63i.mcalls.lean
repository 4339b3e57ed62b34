/-! RUNS, MODEL: choices by lists; calls -/
section MCALLS
variable {L : Nat} {xs : Nat → Int32} {τ τ' τ0 τ1 : tvS} {D : pgD} {rg : rgD} {cd : cdD} {vd : Nat → Nat} {N m : Nat} {G : tG} {rr : Nat → Nat} {X X' : dyD} {K : List (Nat × Nat × Nat)} {n n' nr i st mt wd pgs ev fil f p r Nq sz o : Nat} {s : cSt} {fn : Nat → Nat × Nat} {oa : Nat → Nat} {x : obD} {A : alD}
theorem MFr.same (h : MFr X i τ) (e1 : X'.fr = X.fr) (e2 : X'.aR = X.aR) (e3 : X'.aV = X.aV) : MFr X' i τ := by
  obtain ⟨f1, f2, f3, f4⟩ := h
  refine ⟨f1, f2, f3, fun j hj => ?_⟩
  have := f4 j hj
  unfold MFj dyD.ff dyD.bs dyD.fj at this ⊢
  rw [e1, e2, e3]; exact this
/-- nil -/
theorem case_nil {k1 : Nat} (hRS : RSp D cd τ p) (hp : p < 6000) (hκ : D.K p = 20) (hk : (D.kd p)[1]? = some k1) (hS : MSt n X.sv τ) (hC : MCt K τ) (hK : K.length < 130000) (hn : 1 ≤ n) (h1 : (X.sv (n - 1)).1 = 1) (d : Nat) :
    ∃ τ', rn L xs (d + 2) 412 0 [.ref 123, .int (i32 (p : Int)), jv, jv, jv] [] τ = some (.inl none, τ') ∧ MSt (n - 1) X.sv τ' ∧ MCt ((0, k1, 0) :: K) τ' ∧ frM [209, 210, 211] [132, 135] τ τ' := by
  obtain ⟨s1, s2, s3⟩ := hS
  obtain ⟨q3, q4⟩ := s3 (n - 1) (by omega)
  have en1 : i32 (n : Int) - 1 = i32 ((n - 1 : Nat) : Int) := by rw [show (1 : Int32) = i32 1 from rfl, i32_sub]; congr 1; omega
  have e155 : rd τ 155 p = i32 (k1 : Int) := by rw [hRS.2.1 (by omega) 1 (by omega)]; exact kid_i hk
  have w1 : frM [] [132] τ (wr τ 123 132 (i32 ((n - 1 : Nat) : Int))) := frM_w rfl
  obtain ⟨τ', a1, a2, a3⟩ := plan_m (L := L) (xs := xs) (hC.fr w1 rfl rfl rfl rfl) hK (0, k1, 0) d
  have a1 : rn L xs (d + 1) 397 0 [.ref 123, .int 0, .int (i32 (k1 : Int)), .int 0] [] (wr τ 123 132 (i32 ((n - 1 : Nat) : Int))) = some (.inl none, τ') := a1
  refine ⟨τ', ?_, ⟨by rw [a3.2 132 rfl, wr_self], by omega, fun k hk => by rw [a3.rd (j := 207) rfl, a3.rd (j := 208) rfl, wr_nek (by decide), wr_nek (by decide)]; exact s3 k (by omega)⟩, a2, (w1.sub rfl rfl).trans (a3.sub rfl rfl)⟩
  rw [e412_0 (d + 1), s1, en1, c_in (by omega) (by omega) (by omega), i32_ixn (by omega), q3, h1, show (1 : Int32) = i32 ((1 : Nat) : Int) from rfl, c2_ne (by omega) (by omega) (by omega) (by omega), c_f (by omega), c_in (by omega) (by omega) (by omega), i32_ixn (by omega), e155, bV_ok a1]
/-- a cell -/
theorem case_cons {k2 v : Nat} {a b : vaL} (hRS : RSm D rg cd vd N G rr τ) (hpb : p < D.bP (D.fc + 1)) (hp : p < 6000) (hκ : D.K p = 20) (hk : (D.kd p)[2]? = some k2) (hvl : D.vl p = v) (hv : v + 1 < D.tV (D.fc + 1)) (hv2 : v + 1 < 3002) (hF : MFr X i τ) (hM : MSk fn s X n nr st oa fil mt pgs wd ev τ) (hC : MCt K τ) (hK : K.length < 130000) (hn : 1 ≤ n) (hno : X.no ≤ 30000) (ho : X.sv (n - 1) = (2, i32 (o : Int))) (h1 : 1 ≤ o) (h2 : o ≤ X.no) (hg : (X.hp o).gi < nr) (hs : X.ser (X.hp o).gi = (X.hp o).se) (hco : (X.hp o).co = [a, b]) (hne : vd v ≠ vd (v + 1)) (d : Nat) :
    (n < 4000 ∧ ∃ τ', rn L xs (d + 3) 412 0 [.ref 123, .int (i32 (p : Int)), jv, jv, jv] [] τ = some (.inl none, τ') ∧ MSt (n + 1) (uq (uq X.sv (n - 1) a) n b) τ' ∧ MFr (upV (upV X i (vd v) ((n - 1 : Nat) : Int)) i (vd (v + 1)) (n : Int)) i τ' ∧ MCt ((0, k2, 0) :: K) τ' ∧ frM [207, 208, 209, 210, 211, 212] [130, 132, 135] τ τ' ∧ rd τ' 123 130 = 0) ∨
    (n = 4000 ∧ ∃ τ1 τ', rn L xs (d + 3) 412 0 [.ref 123, .int (i32 (p : Int)), jv, jv, jv] [] τ = some (.inl none, τ') ∧ frM [207, 208, 212] [130, 132] τ τ1 ∧ rd τ1 123 130 = 0 ∧ MEn 4 τ1 τ') := by
  obtain ⟨⟨s1, s2, s3⟩, hO, ⟨hR, hCn⟩, _⟩ := hM
  obtain ⟨q3, q4⟩ := s3 (n - 1) (by omega)
  rw [ho] at q3 q4
  have q3 : rd τ 207 (n - 1) = i32 ((2 : Nat) : Int) := q3
  have q4 : rd τ 208 (n - 1) = i32 (o : Int) := q4
  have hRp := hRS.2.2.1 p hpb
  have en1 : i32 (n : Int) - 1 = i32 ((n - 1 : Nat) : Int) := by rw [show (1 : Int32) = i32 1 from rfl, i32_sub]; congr 1; omega
  have e157 : rd τ 157 p = i32 (v : Int) := by rw [← hvl]; exact hRp.2.2.2.1 (.inr (.inr (.inr hκ)))
  have e156 : rd τ 156 p = i32 (k2 : Int) := by rw [hRp.2.1 (by omega) 2 (by omega)]; exact kid_i hk
  obtain ⟨g1, g2⟩ := hRS.2.2.2.1 v (by omega)
  obtain ⟨g3, g4⟩ := hRS.2.2.2.1 (v + 1) hv
  have hl := (hO.2.2.2.1 o h1 h2).2.1
  have hfil := hO.2.2.1
  obtain ⟨⟨y1, y2, y3⟩, y4⟩ := hO.2.2.2.2.1 o ⟨n - 1, by omega, 0, ho, h1, h2⟩
  obtain ⟨z1, z2⟩ := y2 0 a (by rw [hco]; rfl)
  obtain ⟨z3, z4⟩ := y2 1 b (by rw [hco]; rfl)
  have hll : (X.hp o).co.length = 2 := by rw [hco]; rfl
  obtain ⟨f1, f2, f3, f4⟩ := id hF
  obtain ⟨τ1, e1⟩ : ∃ τ1, τ1 = wr τ 123 132 (i32 ((n - 1 : Nat) : Int)) := ⟨_, rfl⟩
  have w1 : frM [] [132] τ τ1 := by rw [e1]; exact frM_w rfl
  obtain ⟨τ2, a1, a2, a3⟩ := stray_m (L := L) (xs := xs) (n := n) (hO.fr w1 ⟨rfl, rfl, rfl, rfl, rfl, rfl, rfl, rfl, rfl⟩ ⟨rfl, rfl⟩) (hR.fr w1 rfl rfl rfl rfl rfl rfl rfl) (hCn.fr w1 ⟨rfl, rfl, rfl, rfl, rfl, rfl, rfl, rfl⟩) h1 h2 hno hg hs jv jv (d + 1)
  have w2 : frM [] [130, 132] τ τ2 := (w1.sub rfl rfl).trans (a2.sub rfl rfl)
  have hS2 : MSt (n - 1) X.sv τ2 := ⟨by rw [a2.2 132 rfl, e1, wr_self], by omega, fun k hk => by rw [w2.rd (j := 207) rfl, w2.rd (j := 208) rfl]; exact s3 k (by omega)⟩
  have e64 : ∀ e : Nat, (64 : Int32) * i32 (i : Int) + i32 (e : Int) = i32 ((64 * i + e : Nat) : Int) := fun e => by rw [show (64 : Int32) = i32 64 from rfl, i32_mul, i32_add]; congr 1
  obtain ⟨τ3, e3⟩ : ∃ τ3, τ3 = wr τ2 212 (64 * i + vd v) (i32 ((n - 1 : Nat) : Int)) := ⟨_, rfl⟩
  have w3 : frM [212] [] τ2 τ3 := by rw [e3]; exact frM_wr rfl (by decide)
  have w03 : frM [212] [130, 132] τ τ3 := (w2.sub rfl rfl).trans (w3.sub rfl rfl)
  have hF3 := (hF.fr w2 rfl rfl rfl rfl rfl rfl).upV (e := vd v) (k := n - 1) g2 e3
  obtain ⟨τ4, b1, b2, b3⟩ := value_m (L := L) (xs := xs) (hS2.fr w3 rfl rfl rfl) (by omega) a (d + 1)
  have w04 : frM [207, 208, 212] [130, 132] τ τ4 := (w03.sub rfl rfl).trans (b3.sub rfl rfl)
  rw [show n - 1 + 1 = n by omega] at b2
  have hF4 := hF3.fr b3 rfl rfl rfl rfl rfl rfl
  obtain ⟨τ5, e5⟩ : ∃ τ5, τ5 = wr τ4 212 (64 * i + vd (v + 1)) (i32 (n : Int)) := ⟨_, rfl⟩
  have w5 : frM [212] [] τ4 τ5 := by rw [e5]; exact frM_wr rfl (by decide)
  have w05 : frM [207, 208, 212] [130, 132] τ τ5 := w04.trans (w5.sub rfl rfl)
  have hF5 := hF4.upV (e := vd (v + 1)) (k := n) g4 e5
  have hd : rn L xs (d + 3) 412 0 [.ref 123, .int (i32 (p : Int)), jv, jv, jv] [] τ = bI (rn L xs (d + 2) 413 0 [.ref 123, .int (i32 (b.1 : Int)), .int b.2] [] τ5) (fun a2 s1 => cond (pv_c1 .ne a2) (rn L xs (d + 3) 412 128 [.ref 123, .int (i32 (p : Int)), .int (i32 (o : Int)), (dj (jk (dj (.int 0)))), .int (i32 ((1 : Nat) : Int))] [] s1) (some (.inl none, s1))) X0 := by
    rw [e412_0 (d + 2), s1, en1, c_in (by omega) (by omega) (by omega), i32_ixn (by omega), q3, show (1 : Int32) = i32 1 from rfl, c2_ne (by omega) (by omega) (by omega) (by omega), c_t (by omega), e412_36 (d + 2), ← e1]
    rw [show rd τ1 123 132 = i32 ((n - 1 : Nat) : Int) by rw [e1, wr_self], c_in (by omega) (by omega) (by omega), i32_ixn (by omega), w1.rd (j := 208) rfl, q4, bI_ok a1, e412_55 (d + 2), show (2 : Int32) = i32 2 from rfl, show (0 : Int32) = i32 ((0 : Nat) : Int) from rfl, c2_ge (by omega) (by omega) (by omega) (by omega), c_f (by omega), c_in (by omega) (by omega) (by omega), i32_ixn (by omega), w2.rd (j := 157) rfl, e157]
    rw [show i32 (v : Int) + i32 ((0 : Nat) : Int) = i32 ((v + 0 : Nat) : Int) by rw [i32_add]; congr 1, Nat.add_zero, c_in (by omega) (by omega) (by omega), i32_ixn (by omega), w2.2 139 rfl, f1, w2.rd (j := 147) rfl, g1, e64, c_in (by omega) (by omega) (by omega), c_in (by omega) (by omega) (by omega), i32_ixn (by omega), w2.rd (j := 230) rfl, y1, show i32 (oa o : Int) + i32 ((0 : Nat) : Int) = i32 ((oa o + 0 : Nat) : Int) by rw [i32_add]; congr 1, c_in (by omega) (by omega) (by omega), c_in (by omega) (by omega) (by omega), c_in (by omega) (by omega) (by omega), i32_ixn (by omega), i32_ixn (by omega), hS2.1, ← e3, w2.rd (j := 234) rfl, w2.rd (j := 235) rfl, z1, z2, bI_ok b1, show pv_c1 .ne (1 : Int32) = true from rfl, cond_true, e412_128, i32_up]
    rw [e412_55 (d + 2), show (2 : Int32) = i32 2 from rfl, c2_ge (by omega) (by omega) (by omega) (by omega), c_f (by omega), c_in (by omega) (by omega) (by omega), i32_ixn (by omega), w04.rd (j := 157) rfl, e157, show i32 (v : Int) + i32 ((0 + 1 : Nat) : Int) = i32 ((v + 1 : Nat) : Int) by rw [i32_add]; congr 1, c_in (by omega) (by omega) (by omega), i32_ixn (by omega), w04.2 139 rfl, f1, w04.rd (j := 147) rfl, g3, e64, c_in (by omega) (by omega) (by omega), c_in (by omega) (by omega) (by omega), i32_ixn (by omega), w04.rd (j := 230) rfl, y1, show i32 (oa o : Int) + i32 ((0 + 1 : Nat) : Int) = i32 ((oa o + 1 : Nat) : Int) by rw [i32_add]; congr 1, c_in (by omega) (by omega) (by omega), c_in (by omega) (by omega) (by omega), c_in (by omega) (by omega) (by omega), i32_ixn (by omega), i32_ixn (by omega), b2.1, ← e5, w04.rd (j := 234) rfl, w04.rd (j := 235) rfl, z3, z4]
  have h130 : rd τ5 123 130 = 0 := by rw [w5.2 130 rfl, b3.2 130 rfl, w3.2 130 rfl]; exact a3.2.2.2.2.2.2.2
  by_cases c4 : n = 4000
  · obtain ⟨τ6, d1, d2⟩ := value_full (L := L) (xs := xs) (b2.fr w5 rfl rfl rfl) c4 (i32 (b.1 : Int)) b.2 d
    refine .inr ⟨c4, τ5, τ6, ?_, w05, h130, d2⟩
    rw [hd, bI_ok d1]; rfl
  · obtain ⟨τ6, d1, d2, d3⟩ := value_m (L := L) (xs := xs) (b2.fr w5 rfl rfl rfl) (by omega) b (d + 1)
    have w06 : frM [207, 208, 212] [130, 132] τ τ6 := w05.trans (d3.sub rfl rfl)
    obtain ⟨τ7, p1, p2, p3⟩ := plan_m (L := L) (xs := xs) (hC.fr w06 rfl rfl rfl rfl) hK (0, k2, 0) (d + 1)
    have p1 : rn L xs (d + 2) 397 0 [.ref 123, .int 0, .int (i32 (k2 : Int)), .int 0] [] τ6 = some (.inl none, τ7) := p1
    refine .inl ⟨by omega, τ7, ?_, d2.fr p3 rfl rfl rfl, (hF5.fr d3 rfl rfl rfl rfl rfl rfl).fr p3 rfl rfl rfl rfl rfl rfl, p2, (w06.sub rfl rfl).trans (p3.sub rfl rfl), by rw [p3.2 130 rfl, d3.2 130 rfl]; exact h130⟩
    rw [hd, bI_ok d1, show pv_c1 .ne (1 : Int32) = true from rfl, cond_true, e412_128, i32_up, e412_55 (d + 2), show (2 : Int32) = i32 2 from rfl, c2_ge (by omega) (by omega) (by omega) (by omega), c_t (by omega), e412_134 (d + 2), c_in (by omega) (by omega) (by omega), i32_ixn (by omega), w06.rd (j := 156) rfl, e156, bV_ok p1]
/-- one call more -/
theorem down_m {g : Nat} (hF : MFr X i τ) (hC : MCt K τ) (hK : K.length < 130000) (d : Nat) :
    (i = 300 ∧ ∃ τ', rn L xs (d + 2) 415 0 [.ref 123, .int (i32 (g : Int))] [] τ = some (.inl (some (.int 0)), τ') ∧ MEn 4 τ τ') ∨
    (i < 300 ∧ ∃ τ', rn L xs (d + 2) 415 0 [.ref 123, .int (i32 (g : Int))] [] τ = some (.inl (some (.int 1)), τ') ∧ rd τ' 123 139 = i32 ((i + 1 : Nat) : Int) ∧ rd τ' 123 131 = i32 ((i + 1 : Nat) : Int) ∧ rd τ' 215 (i + 1) = i32 (g : Int) ∧ rd τ' 214 (i + 1) = i32 (-1) ∧ (∀ j, j ≤ i → rd τ' 215 j = rd τ 215 j ∧ rd τ' 214 j = rd τ 214 j) ∧ MCt ((8, 0, 0) :: K) τ' ∧ frM [209, 210, 211, 214, 215] [131, 135, 139] τ τ') := by
  obtain ⟨f1, f2, f3, f4⟩ := hF
  by_cases c : i = 300
  · obtain ⟨t, g1, g2⟩ := end_m (L := L) (xs := xs) (τ := τ) 4 d
    have g1 : rn L xs (d + 1) 395 0 [.ref 123, .int 4] [] τ = some (.inl none, t) := g1
    refine .inl ⟨c, t, ?_, g2⟩
    rw [e415_0 (d + 1), f2, show (300 : Int32) = i32 300 from rfl, c2_ne (by omega) (by omega) (by omega) (by omega), c_f (by omega), bV_ok g1]
  · obtain ⟨τ1, e1⟩ : ∃ τ1, τ1 = wr (wr (wr (wr τ 123 131 (i32 ((i + 1 : Nat) : Int))) 123 139 (i32 ((i + 1 : Nat) : Int))) 215 (i + 1) (i32 (g : Int))) 214 (i + 1) (i32 (-1)) := ⟨_, rfl⟩
    have w1 : frM [214, 215] [131, 139] τ τ1 := by rw [e1]; exact (((frM_w rfl).trans (frM_w rfl)).trans (frM_wr rfl (by decide))).trans (frM_wr rfl (by decide))
    obtain ⟨τ2, a1, a2, a3⟩ := plan_m (L := L) (xs := xs) (hC.fr w1 rfl rfl rfl rfl) hK (8, 0, 0) d
    have a1 : rn L xs (d + 1) 397 0 [.ref 123, .int 8, .int 0, .int 0] [] τ1 = some (.inl none, τ2) := a1
    refine .inr ⟨by omega, τ2, ?_, ?_, ?_, ?_, ?_, fun j hj => ⟨?_, ?_⟩, a2, (w1.sub rfl rfl).trans (a3.sub rfl rfl)⟩
    · rw [e415_0 (d + 1), f2, show (300 : Int32) = i32 300 from rfl, c2_ne (by omega) (by omega) (by omega) (by omega), c_t (by omega), e415_17 (d + 1), f1, f2, i32_up, c_in (by omega) (by omega) (by omega), c_in (by omega) (by omega) (by omega), i32_ixn (by omega), i32_raw, ← e1, bV_ok a1]
    · rw [a3.2 139 rfl, e1, wr_nek (by decide), wr_nek (by decide), wr_self]
    · rw [a3.2 131 rfl, e1, wr_nek (by decide), wr_nek (by decide), wr_nei (by decide), wr_self]
    · rw [a3.rd (j := 215) rfl, e1, wr_nek (by decide), wr_self]
    · rw [a3.rd (j := 214) rfl, e1, wr_self]
    · rw [a3.rd (j := 215) rfl, e1, wr_nek (by decide), wr_nei (by omega), wr_nek (by decide), wr_nek (by decide)]
    · rw [a3.rd (j := 214) rfl, e1, wr_nei (by omega), wr_nek (by decide), wr_nek (by decide), wr_nek (by decide)]
end MCALLS
