/-! RUNS, MODEL: calls, applications -/
/-- one call more, plainly -/
noncomputable def caX (D : pgD) (rg : rgD) (X : dyD) (i p b : Nat) : dyD := (X.sv, X.2.1, X.ser, uq X.fr (i + 1) (D.vl p, b, -1), (fun j k => if j = i + 1 then (if k ∈ rg.gl (D.vl p) then X.aR i (handN D rg (X.ff i) p ((rg.gl (D.vl p)).idxOf k)) else 2000) else X.aR j k), (fun j e => if j = i + 1 then (if e < (D.kd p).length then ((b + e : Nat) : Int) else 5000) else X.aV j e))
/-- one application more -/
noncomputable def apX (D : pgD) (rg : rgD) (cd : cdD) (vd : Nat → Nat) (X : dyD) (i o b f : Nat) : dyD := (X.sv, X.2.1, X.ser, uq X.fr (i + 1) (f, b, (D.vl (X.hp o).pt : Int)), (fun j k => if j = i + 1 then (if k ∈ rg.kp (D.vl (X.hp o).pt) then (((X.hp o).kp.getD ((rg.kp (D.vl (X.hp o).pt)).idxOf k) (2000, 0)).1) else 2000) else X.aR j k), (fun j e => if j = i + 1 then (if e = vd (D.gv (D.vl (X.hp o).pt)) then ((b + 1 : Nat) : Int) else if e ∈ (cd.cg (D.vl (X.hp o).pt)).map vd then -2 - ((((cd.cg (D.vl (X.hp o).pt)).map vd).idxOf e : Nat) : Int) else 5000) else X.aV j e))
section MCALL2
variable {L : Nat} {xs : Nat → Int32} {τ τ' τ0 τ1 : tvS} {D : pgD} {rg : rgD} {cd : cdD} {vd : Nat → Nat} {N m : Nat} {G : tG} {rr : Nat → Nat} {X X' : dyD} {K : List (Nat × Nat × Nat)} {n n' nr i st mt wd pgs ev fil f p r Nq sz o b g : Nat} {s : cSt} {fn : Nat → Nat × Nat} {oa : Nat → Nat} {x : obD} {A : alD}
theorem idx_at {l : List Nat} (h : l.Nodup) {j : Nat} (hj : j < l.length) : l.idxOf (l.getD j 0) = j := by
  have e : l.getD j 0 = l[j] := by rw [List.getD_eq_getElem?_getD, List.getElem?_eq_getElem hj]; rfl
  rw [e]
  have hm : l[j] ∈ l := List.getElem_mem hj
  have h1 := List.idxOf_lt_length_of_mem hm
  have h2 : l[l.idxOf l[j]]? = some l[j] := by
    rw [List.getElem?_eq_getElem h1]
    exact congrArg some (List.getElem_idxOf h1)
  exact (List.getElem?_inj h1 h).mp (by rw [h2, List.getElem?_eq_getElem hj])
theorem getD_mem {l : List Nat} {j : Nat} (hj : j < l.length) : l.getD j 0 ∈ l := by
  rw [List.getD_eq_getElem?_getD, List.getElem?_eq_getElem hj]; exact List.getElem_mem hj
theorem caX_ok (hnd : (rg.gl (D.vl p)).Nodup) : CAd D rg X (caX D rg X i p b) i p b := by
  refine ⟨rfl, rfl, rfl, rfl, rfl, fun j hj => uq_ne (by omega), uq_self, fun j e hj => if_neg (by omega), fun j e hj => if_neg (by omega), fun j hj => ?_, fun j hj => ?_⟩
  · show (if i + 1 = i + 1 then _ else _) = _
    rw [if_pos rfl, if_pos hj]
  · show (if i + 1 = i + 1 then _ else _) = _
    rw [if_pos rfl, if_pos (getD_mem hj), idx_at hnd hj]
/-- where a call's parts lie -/
theorem vars_loop {many : Nat} (hi : i + 1 ≤ 300) (hb : b + many = n) (hn : n ≤ 4000) (hmany : many ≤ 6) (x1 x2 x3 : Int32) (d : Nat) : ∀ (j k : Nat) (τ : tvS), k + j = many → rd τ 123 139 = i32 ((i + 1 : Nat) : Int) → rd τ 123 132 = i32 (n : Int) → frM [212] [] τ0 τ → (∀ q, q < 64 * (i + 1) → rd τ 212 q = rd τ0 212 q) → (∀ e, e < k → rd τ 212 (64 * (i + 1) + e) = i32 ((b + e : Nat) : Int)) →
    ∃ τ' v4 v5, rn L xs (d + 1) 414 37 [.ref 123, .int x1, .int x2, .int x3, .int (i32 (many : Int)), .int (i32 (k : Int))] [] τ = rn L xs (d + 1) 414 78 [.ref 123, .int x1, .int x2, .int x3, v4, .int (i32 ((0 : Nat) : Int))] [] τ' ∧ frM [212] [] τ0 τ' ∧ (∀ q, q < 64 * (i + 1) → rd τ' 212 q = rd τ0 212 q) ∧ (∀ e, e < many → rd τ' 212 (64 * (i + 1) + e) = i32 ((b + e : Nat) : Int)) ∧ v5 = jk (.int (i32 (many : Int))) := by
  intro j
  induction j with
  | zero =>
    intro k τ hk h1 h2 w h3 h4
    have e : k = many := by omega
    subst e
    refine ⟨τ, jk (.int (i32 (k : Int))), _, ?_, w, h3, h4, rfl⟩
    rw [e414_37, c2_ge (by omega) (by omega) (by omega) (by omega), c_t (by omega), e414_75]; rfl
  | succ j ih =>
    intro k τ hk h1 h2 w h3 h4
    have e64 : (64 : Int32) * i32 ((i + 1 : Nat) : Int) + i32 (k : Int) = i32 ((64 * (i + 1) + k : Nat) : Int) := by rw [show (64 : Int32) = i32 64 from rfl, i32_mul, i32_add]; congr 1
    have eb : (i32 (n : Int) - i32 (many : Int)) + i32 (k : Int) = i32 ((b + k : Nat) : Int) := by rw [i32_sub, i32_add]; congr 1; omega
    obtain ⟨τ', v4, v5, a1, a2, a3, a4, a5⟩ := ih (k + 1) (wr τ 212 (64 * (i + 1) + k) (i32 ((b + k : Nat) : Int))) (by omega) (by rw [wr_nek (by decide)]; exact h1) (by rw [wr_nek (by decide)]; exact h2) (w.trans (frM_wr rfl (by decide))) (fun q hq => by rw [wr_nei (by omega)]; exact h3 q hq) (fun e he => by
      by_cases q : e = k
      · subst q; rw [wr_self]
      · rw [wr_nei (by omega)]; exact h4 e (by omega))
    refine ⟨τ', v4, v5, ?_, a2, a3, a4, a5⟩
    rw [e414_37, c2_ge (by omega) (by omega) (by omega) (by omega), c_f (by omega), h1, h2, e64, c_in (by omega) (by omega) (by omega), i32_ixn (by omega), eb, i32_up]
    exact a1
/-- the regions of a call -/
theorem hands_loop (hPG : PGF D m) (hfc : f ≤ D.fc) (h1 : D.bP f ≤ p) (h2 : p < D.bP (f + 1)) (hk : D.K p = 3) (hi : i + 1 ≤ 300) (hg : g = D.vl p) (hgl : (rg.gl g).length ≤ 60) (hnd : (rg.gl g).Nodup) (hm : ∀ j, j < (rg.gl g).length → (rg.gl g).getD j 0 < 64) (hh : ∀ j, j < (rg.gl g).length → handN D rg f p j < 64 ∧ X.aR i (handN D rg f p j) < 2000) (d : Nat) :
    ∀ (j t : Nat) (τ : tvS) (v4 : Value), t + j = (rg.gl g).length → RSm D rg cd vd N G rr τ → rd τ 123 139 = i32 ((i + 1 : Nat) : Int) → (∀ k, k < 64 → X.aR i k < 2000 → rd τ 213 (64 * i + k) = i32 (X.aR i k : Int)) → frM [169, 213] [] τ0 τ → (∀ q, q < 64 * (i + 1) → rd τ 213 q = rd τ0 213 q) → (∀ q, q < t → rd τ 213 (64 * (i + 1) + (rg.gl g).getD q 0) = i32 (X.aR i (handN D rg f p q) : Int)) →
      ∃ τ' v4' v5, rn L xs (d + 3) 414 78 [.ref 123, .int (i32 (p : Int)), .int (i32 (f : Int)), .int (i32 (g : Int)), v4, .int (i32 (t : Int))] [] τ = rn L xs (d + 3) 414 143 [.ref 123, .int (i32 (p : Int)), .int (i32 (f : Int)), .int (i32 (g : Int)), v4', v5] [] τ' ∧ RSm D rg cd vd N G rr τ' ∧ frM [169, 213] [] τ0 τ' ∧ (∀ q, q < 64 * (i + 1) → rd τ' 213 q = rd τ0 213 q) ∧ ∀ q, q < (rg.gl g).length → rd τ' 213 (64 * (i + 1) + (rg.gl g).getD q 0) = i32 (X.aR i (handN D rg f p q) : Int) := by
  have hfc2 := hPG.1.1
  have hbl := hPG.1
  have hble := (hPG.le (D.fc + 1 - (f + 1)) (f + 1) (by omega)).1
  obtain ⟨_, hvf, hvf2, _⟩ := ((hPG.2.2 f hfc).2.2.1 p h1 h2).2.2.2.1 hk
  intro j
  induction j with
  | zero =>
    intro t τ v4 ht hRS h139 hrow w ho hn
    have e : t = (rg.gl g).length := by omega
    subst e
    obtain ⟨_, _, n2, _⟩ := hRS.2.1 g (by omega)
    refine ⟨τ, v4, .int (i32 ((rg.gl g).length : Int)), ?_, hRS, w, ho, hn⟩
    rw [e414_78, c_in (by omega) (by omega) (by omega), i32_ixn (by omega), n2, c2_ge (by omega) (by omega) (by omega) (by omega), c_t (by omega)]
  | succ j ih =>
    intro t τ v4 ht hRS h139 hrow w ho hn
    obtain ⟨_, _, n2, n3, _⟩ := hRS.2.1 g (by omega)
    obtain ⟨y1, y2⟩ := hh t (by omega)
    have y3 := hm t (by omega)
    obtain ⟨τ1, a1, a2, a3⟩ := hand_m (L := L) (xs := xs) (i := t) hRS hPG hfc h1 h2 hk (by rw [← hg]; omega) (by rw [← hg]; exact hgl) d
    have e64 : (64 : Int32) * i32 (g : Int) + i32 (t : Int) = i32 ((64 * g + t : Nat) : Int) := by rw [show (64 : Int32) = i32 64 from rfl, i32_mul, i32_add]; congr 1
    have em1 : i32 ((i + 1 : Nat) : Int) - 1 = i32 (i : Int) := by rw [show (1 : Int32) = i32 1 from rfl, i32_sub]; congr 1; omega
    have e65 : (64 : Int32) * i32 (i : Int) + i32 (handN D rg f p t : Int) = i32 ((64 * i + handN D rg f p t : Nat) : Int) := by rw [show (64 : Int32) = i32 64 from rfl, i32_mul, i32_add]; congr 1
    have e66 : (64 : Int32) * i32 ((i + 1 : Nat) : Int) + i32 ((rg.gl g).getD t 0 : Nat) = i32 ((64 * (i + 1) + (rg.gl g).getD t 0 : Nat) : Int) := by rw [show (64 : Int32) = i32 64 from rfl, i32_mul, i32_add]; congr 1
    have hrow1 : rd τ1 213 (64 * i + handN D rg f p t) = i32 (X.aR i (handN D rg f p t) : Int) := by rw [a3.rd (j := 213) rfl]; exact hrow _ y1 y2
    obtain ⟨τ2, e2⟩ : ∃ τ2, τ2 = wr τ1 213 (64 * (i + 1) + (rg.gl g).getD t 0) (i32 (X.aR i (handN D rg f p t) : Int)) := ⟨_, rfl⟩
    have w2 : frM [213] [] τ1 τ2 := by rw [e2]; exact frM_wr rfl (by decide)
    have k2 : ∀ q, q ≠ 64 * (i + 1) + (rg.gl g).getD t 0 → rd τ2 213 q = rd τ 213 q := fun q hq => by rw [e2, wr_nei hq, a3.rd (j := 213) rfl]
    obtain ⟨τ', v4', v5, b1, b2, b3, b4, b5⟩ := ih (t + 1) τ2 (jk (dj v4)) (by omega) (a2.fr w2 rfl rfl rfl) (by rw [w2.2 139 rfl, a3.2 139 rfl]; exact h139) (fun k hk hv => by rw [k2 _ (by omega)]; exact hrow k hk hv) (w.trans ((a3.sub rfl rfl).trans (w2.sub rfl rfl))) (fun q hq => by rw [k2 _ (by omega)]; exact ho q hq) (fun q hq => by
      by_cases e : q = t
      · subst e; rw [e2, wr_self]
      · have hne : (rg.gl g).getD q 0 ≠ (rg.gl g).getD t 0 := fun h => e (by
          have h1 := idx_at hnd (show q < (rg.gl g).length by omega)
          have h2 := idx_at hnd (show t < (rg.gl g).length by omega)
          rw [h] at h1; omega)
        rw [k2 _ (by omega)]; exact hn q (by omega))
    refine ⟨τ', v4', v5, ?_, b2, b3, b4, b5⟩
    rw [e414_78 (d + 2), c_in (by omega) (by omega) (by omega), i32_ixn (by omega), n2, c2_ge (by omega) (by omega) (by omega) (by omega), c_f (by omega), e64, c_in (by omega) (by omega) (by omega), bI_ok a1, h139, em1, e65, c_in (by omega) (by omega) (by omega), i32_ixn (by omega), n3 t (by omega), e66, c_in (by omega) (by omega) (by omega), i32_ixn (by omega), i32_ixn (by omega), hrow1, ← e2, i32_up]
    exact b1
/-- a call -/
theorem call_m (hRS : RSm D rg cd vd N G rr τ) (hPG : PGF D m) (hF : MFr X i τ) (hS : MSt n X.sv τ) (hC : MCt K τ) (hK : K.length + 10 < 130000) (hf : X.ff i = f) (hfc : f ≤ D.fc) (h1 : D.bP f ≤ p) (h2 : p < D.bP (f + 1)) (hk : D.K p = 3) (hb : b + (D.kd p).length = n) (hgl : (rg.gl (D.vl p)).length ≤ 60) (hnd : (rg.gl (D.vl p)).Nodup) (hm : ∀ j, j < (rg.gl (D.vl p)).length → (rg.gl (D.vl p)).getD j 0 < 64) (hh : ∀ j, j < (rg.gl (D.vl p)).length → handN D rg f p j < 64 ∧ X.aR i (handN D rg f p j) < 2000) (d : Nat) :
    (i = 300 ∧ ∃ τ', rn L xs (d + 4) 414 0 [.ref 123, .int (i32 (p : Int)), jv, jv, jv, jv] [] τ = some (.inl none, τ') ∧ MEn 4 τ τ') ∨
    (i < 300 ∧ ∃ τ', rn L xs (d + 4) 414 0 [.ref 123, .int (i32 (p : Int)), jv, jv, jv, jv] [] τ = some (.inl none, τ') ∧ MFr (caX D rg X i p b) (i + 1) τ' ∧ MCt ((0, D.bP (D.vl p + 1) - 1, 0) :: (8, 0, 0) :: K) τ' ∧ RSm D rg cd vd N G rr τ' ∧ frM [169, 209, 210, 211, 212, 213, 214, 215] [131, 135, 139] τ τ') := by
  have hfc2 := hPG.1.1
  have hbl := hPG.1
  have hble := (hPG.le (D.fc + 1 - (f + 1)) (f + 1) (by omega)).1
  obtain ⟨hk1, hvf, hvf2, hkl⟩ := ((hPG.2.2 f hfc).2.2.1 p h1 h2).2.2.2.1 hk
  have hk5 := (hPG.2.2 (D.vl p) (by omega)).1.2.2.2
  obtain ⟨f1, f2, f3, f4⟩ := id hF
  obtain ⟨d1, d2, d3, d4⟩ := f4 i (Nat.le_refl _)
  rw [hf] at d1
  have hRp := hRS.2.2.1 p (by omega)
  have e157 := hRp.2.2.2.1 (.inr (.inl hk))
  have e163 := (hRp.2.2.1 hk).2.1
  rcases down_m (L := L) (xs := xs) (g := D.vl p) hF hC (by omega) (d + 1) with ⟨c1, τ', c2, c3⟩ | ⟨c1, τ1, c2, c3, c4, c5, c6, c7, c8, c9⟩
  · refine .inl ⟨c1, τ', ?_, c3⟩
    rw [e414_0 (d + 3), f1, c_in (by omega) (by omega) (by omega), c_in (by omega) (by omega) (by omega), i32_ixn (by omega), e157, bI_ok c2]; rfl
  · have hRS1 : RSm D rg cd vd N G rr τ1 := hRS.fr c9 rfl rfl rfl
    obtain ⟨τ2, v4, v5, a1, a2, a3, a4, _⟩ := vars_loop (L := L) (xs := xs) (many := (D.kd p).length) (i := i) (b := b) (n := n) (τ0 := τ1) (by omega) hb hS.2.1 (by omega) (i32 (p : Int)) (i32 (f : Int)) (i32 (D.vl p : Int)) (d + 3) (D.kd p).length 0 τ1 (by omega) c3 (by rw [c9.2 132 rfl]; exact hS.1) frM.refl (fun _ _ => rfl) (fun e he => by omega)
    obtain ⟨τ3, v4', v5', b1, b2, b3, b4, b5⟩ := hands_loop (L := L) (xs := xs) (X := X) (τ0 := τ2) (cd := cd) (vd := vd) (N := N) (G := G) (rr := rr) (g := D.vl p) hPG hfc h1 h2 hk (by omega) rfl hgl hnd hm hh (d + 1) (rg.gl (D.vl p)).length 0 τ2 v4 (by omega) (hRS1.fr a2 rfl rfl rfl) (by rw [a2.2 139 rfl]; exact c3) (fun k hk hv => by rw [a2.rd (j := 213) rfl, c9.rd (j := 213) rfl]; exact d4 k hk hv) frM.refl (fun _ _ => rfl) (fun q hq => by omega)
    have w13 : frM [169, 212, 213] [] τ1 τ3 := (a2.sub rfl rfl).trans (b3.sub rfl rfl)
    have hl : ((8, 0, 0) :: K).length = K.length + 1 := rfl
    obtain ⟨τ4, g1, g2, g3⟩ := plan_m (L := L) (xs := xs) (c8.fr w13 rfl rfl rfl rfl) (by omega) (0, D.bP (D.vl p + 1) - 1, 0) (d + 2)
    have g1 : rn L xs (d + 3) 397 0 [.ref 123, .int 0, .int (i32 ((D.bP (D.vl p + 1) - 1 : Nat) : Int)), .int 0] [] τ3 = some (.inl none, τ4) := g1
    have e142 : rd τ3 142 (D.vl p) = i32 ((D.bP (D.vl p + 1) - 1 : Nat) : Int) := (b2.2.1 (D.vl p) (by omega)).1.1
    have w04 : frM [169, 209, 210, 211, 212, 213, 214, 215] [131, 135, 139] τ τ4 := ((c9.sub rfl rfl).trans (w13.sub rfl rfl)).trans (g3.sub rfl rfl)
    have w34 : ∀ j, j = 212 ∨ j = 213 ∨ j = 214 ∨ j = 215 → ∀ q, rd τ4 j q = rd τ3 j q := fun j hj q => by rcases hj with e | e | e | e <;> rw [e] <;> exact g3.rd rfl q
    refine .inr ⟨c1, τ4, ?_, ⟨?_, ?_, by omega, fun j hj => ?_⟩, g2, b2.fr g3 rfl rfl rfl, w04⟩
    · have a1 : rn L xs (d + 4) 414 37 [.ref 123, .int (i32 (p : Int)), .int (i32 (f : Int)), .int (i32 (D.vl p : Int)), .int (i32 ((D.kd p).length : Int)), .int 0] [] τ1 = rn L xs (d + 4) 414 78 [.ref 123, .int (i32 (p : Int)), .int (i32 (f : Int)), .int (i32 (D.vl p : Int)), v4, .int (i32 ((0 : Nat) : Int))] [] τ2 := a1
      rw [e414_0 (d + 3), f1, c_in (by omega) (by omega) (by omega), c_in (by omega) (by omega) (by omega), i32_ixn (by omega), i32_ixn (by omega), e157, d1, bI_ok c2, show pv_c1 .ne (1 : Int32) = true from rfl, cond_true, e414_26, c_in (by omega) (by omega) (by omega), i32_ixn (by omega), c9.rd (j := 163) rfl, e163, a1, b1, e414_143 (d + 3), c_in (by omega) (by omega) (by omega), i32_ixn (by omega), e142, bV_ok g1]
    · rw [g3.2 139 rfl, w13.2 139 rfl]; exact c3
    · rw [g3.2 131 rfl, w13.2 131 rfl]; exact c4
    · by_cases e : j = i + 1
      · subst e
        have efr : (caX D rg X i p b).fr (i + 1) = (D.vl p, b, -1) := uq_self
        refine ⟨?_, ?_, fun e he hv => ?_, fun k hk hv => ?_⟩
        · unfold dyD.ff; rw [efr, w34 215 (by omega), w13.rd (j := 215) rfl]; exact c5
        · unfold dyD.fj; rw [efr, w34 214 (by omega), w13.rd (j := 214) rfl, if_neg (show ¬ (0 : Int) ≤ -1 by omega)]; exact c6
        · have ev : (caX D rg X i p b).aV (i + 1) e = if e < (D.kd p).length then ((b + e : Nat) : Int) else 5000 := if_pos rfl
          rw [ev] at hv ⊢
          by_cases q : e < (D.kd p).length
          · rw [if_pos q, w34 212 (by omega), b3.rd (j := 212) rfl]; exact a4 e q
          · rw [if_neg q] at hv; exact absurd hv (by omega)
        · have ev : (caX D rg X i p b).aR (i + 1) k = if k ∈ rg.gl (D.vl p) then X.aR i (handN D rg (X.ff i) p ((rg.gl (D.vl p)).idxOf k)) else 2000 := if_pos rfl
          rw [ev] at hv ⊢
          by_cases q : k ∈ rg.gl (D.vl p)
          · rw [if_pos q, w34 213 (by omega), hf]
            have hlt := List.idxOf_lt_length_of_mem q
            have := b5 _ hlt
            have ek : (rg.gl (D.vl p)).getD ((rg.gl (D.vl p)).idxOf k) 0 = k := by
              rw [List.getD_eq_getElem?_getD, List.getElem?_eq_getElem hlt]; exact List.getElem_idxOf hlt
            rw [ek] at this
            exact this
          · rw [if_neg q] at hv; exact absurd hv (by omega)
      · have hj' : j ≤ i := by omega
        obtain ⟨x1, x2, x3, x4⟩ := f4 j hj'
        have efr : (caX D rg X i p b).fr j = X.fr j := uq_ne e
        have eV : ∀ e', (caX D rg X i p b).aV j e' = X.aV j e' := fun e' => if_neg e
        have eR : ∀ k, (caX D rg X i p b).aR j k = X.aR j k := fun k => if_neg e
        refine ⟨?_, ?_, fun e' he hv => ?_, fun k hk hv => ?_⟩
        · unfold dyD.ff at x1 ⊢; rw [efr, w34 215 (by omega), w13.rd (j := 215) rfl, (c7 j hj').1]; exact x1
        · unfold dyD.fj dyD.bs at x2 ⊢; rw [efr, w34 214 (by omega), w13.rd (j := 214) rfl, (c7 j hj').2]; exact x2
        · rw [eV] at hv ⊢; rw [w34 212 (by omega), b3.rd (j := 212) rfl, a3 _ (by omega), c9.rd (j := 212) rfl]; exact x3 e' he hv
        · rw [eR] at hv ⊢; rw [w34 213 (by omega), b4 _ (by omega), a2.rd (j := 213) rfl, c9.rd (j := 213) rfl]; exact x4 k hk hv
end MCALL2
