/-! RUNS, MODEL: regions, variables, what is filled in -/
section MODELOPS
variable {L : Nat} {xs : Nat → Int32} {τ τ' : tvS} {n nr i fil mt no : Nat} {sv : Nat → vaL} {K : List (Nat × Nat × Nat)} {X X' : dyD} {Y : rgY} {ser : Nat → Nat} {oa : Nat → Nat} {ct : Nat × Nat × Nat × Nat × Nat} {B : Nat}
/-- nothing strays -/
theorem stray_m {o : Nat} (hO : MOb X n oa fil τ) (hR : MRg Y X.ser nr τ) (hC : MCn ct B τ) (h1 : 1 ≤ o) (h2 : o ≤ X.no) (hno : X.no ≤ 30000) (hg : (X.hp o).gi < nr) (hs : X.ser (X.hp o).gi = (X.hp o).se) (v2 v3 : Value) (d : Nat) :
    ∃ τ', rn L xs (d + 1) 406 0 [.ref 123, .int (i32 (o : Int)), v2, v3] [] τ = some (.inl (some (.int 0)), τ') ∧ frM [] [130] τ τ' ∧ MCn ct B τ' := by
  obtain ⟨o1, o2, o3, o4, o5, o6⟩ := (hO.2.2.2.1 o h1 h2).1
  have hse := (hO.2.2.2.1 o h1 h2).2.2.1
  obtain ⟨r1, r2, r3⟩ := hR
  obtain ⟨c1, c2, c3, c4, c5, c6, c7, c8⟩ := hC
  obtain ⟨q1, q2, q3, _⟩ := r3 _ hg
  refine ⟨wr τ 123 130 0, ?_, frM_w rfl, ?_⟩
  · rw [e406_0, c_in (by omega) (by omega) (by omega), i32_ixn (by omega), o3, r1, c2_ge (by omega) (by omega) (by omega) (by omega), c_f (by omega), c_in (by omega) (by omega) (by omega), c_in (by omega) (by omega) (by omega), i32_ixn (by omega), q3, o4, hs, c2_refl, e406_34, e406_35, show pv_c1 .eq (0 : Int32) = true from rfl, cond_true, e406_49, e406_50, c8]
    rfl
  · have w : frM [] [130] τ (wr τ 123 130 0) := frM_w rfl
    unfold MCn
    rw [w.2 122 rfl, w.2 123 rfl, w.2 125 rfl, w.2 126 rfl, w.2 127 rfl, w.2 128 rfl, w.2 129 rfl, wr_self]
    exact ⟨c1, c2, c3, c4, c5, c6, c7, rfl⟩
/-- a region more -/
theorem region_m {f k : Nat} (hR : MRg Y X.ser nr τ) (hF : MFr X i τ) (hC : MCn ct X.B τ) (hnr : nr < 2000) (hk : k < 64) (hX : MKRg X X' i k nr) (hB : X.B < 10000000) (d : Nat) :
    ∃ τ', rn L xs (d + 1) 396 0 [.ref 123, .int (i32 (f : Int)), .int (i32 (k : Int))] [] τ = some (.inl (some (.int 1)), τ') ∧ MRg (uq Y nr (f, k, 0, 0, 0)) X'.ser (nr + 1) τ' ∧ MFr X' i τ' ∧ MCn ct X'.B τ' ∧ frM [213, 216, 217, 218, 219, 220, 221] [129, 144] τ τ' := by
  obtain ⟨r1, r2, r3⟩ := hR
  obtain ⟨f1, f2, f3, f4⟩ := hF
  obtain ⟨c1, c2, c3, c4, c5, c6, ⟨c7, c7b⟩, c8⟩ := hC
  obtain ⟨x1, x2, x3, x4, x5, x6, x7, x8⟩ := hX
  have e1 : rd τ 123 129 + 1 = i32 (X.B : Int) := by rw [c7, i32_up, show X.B - 1 + 1 = X.B by omega]
  have e2 : (64 : Int32) * i32 (i : Int) + i32 (k : Int) = i32 ((64 * i + k : Nat) : Int) := by rw [show (64 : Int32) = i32 64 from rfl, i32_mul, i32_add]; congr 1
  refine ⟨wr (wr (wr (wr (wr (wr (wr (wr (wr τ 123 129 (i32 (X.B : Int))) 216 nr (i32 (f : Int))) 217 nr (i32 (k : Int))) 218 nr (i32 (X.B : Int))) 219 nr 0) 220 nr 0) 221 nr 0) 213 (64 * i + k) (i32 (nr : Int))) 123 144 (i32 ((nr + 1 : Nat) : Int)), ?_, ⟨wr_self _ _ _ _, by omega, fun r hr => ?_⟩, ⟨?_, ?_, f3, fun j hj => ?_⟩, ?_, ?_⟩
  · rw [e396_0, r1, show (2000 : Int32) = i32 2000 from rfl, c2_ne (by omega) (by omega) (by omega) (by omega), c_t (by omega), e396_17, r1, c_in (by omega) (by omega) (by omega), c_in (by omega) (by omega) (by omega), c_in (by omega) (by omega) (by omega), c_in (by omega) (by omega) (by omega), c_in (by omega) (by omega) (by omega), c_in (by omega) (by omega) (by omega), f1, e2, c_in (by omega) (by omega) (by omega), e1, i32_ixn (by omega), i32_ixn (by omega), i32_up]
  · by_cases q : r = nr
    · subst q
      rw [uq_self, x5, uq_self]
      refine ⟨?_, ?_, ?_, ?_, ?_, ?_⟩
      · rw [wr_nek (by decide), wr_nek (by decide), wr_nek (by decide), wr_nek (by decide), wr_nek (by decide), wr_nek (by decide), wr_nek (by decide), wr_self]
      · rw [wr_nek (by decide), wr_nek (by decide), wr_nek (by decide), wr_nek (by decide), wr_nek (by decide), wr_nek (by decide), wr_self]
      · rw [wr_nek (by decide), wr_nek (by decide), wr_nek (by decide), wr_nek (by decide), wr_nek (by decide), wr_self]
      · rw [wr_nek (by decide), wr_nek (by decide), wr_nek (by decide), wr_nek (by decide), wr_self]; rfl
      · rw [wr_nek (by decide), wr_nek (by decide), wr_nek (by decide), wr_self]; rfl
      · rw [wr_nek (by decide), wr_nek (by decide), wr_self]; rfl
    · have k0 : ∀ j, 216 ≤ j → j ≤ 221 → rd (wr (wr (wr (wr (wr (wr (wr (wr (wr τ 123 129 (i32 (X.B : Int))) 216 nr (i32 (f : Int))) 217 nr (i32 (k : Int))) 218 nr (i32 (X.B : Int))) 219 nr 0) 220 nr 0) 221 nr 0) 213 (64 * i + k) (i32 (nr : Int))) 123 144 (i32 ((nr + 1 : Nat) : Int))) j r = rd τ j r := fun j j1 j2 => by
        rw [wr_nek (by omega), wr_nek (by omega), wr_nei q, wr_nei q, wr_nei q, wr_nei q, wr_nei q, wr_nei q, wr_nek (by omega)]
      rw [uq_ne q, x5, uq_ne q, k0 216 (by omega) (by omega), k0 217 (by omega) (by omega), k0 218 (by omega) (by omega), k0 219 (by omega) (by omega), k0 220 (by omega) (by omega), k0 221 (by omega) (by omega)]
      exact r3 r (by omega)
  · rw [wr_nei (by decide), wr_nek (by decide), wr_nek (by decide), wr_nek (by decide), wr_nek (by decide), wr_nek (by decide), wr_nek (by decide), wr_nek (by decide), wr_nei (by decide)]; exact f1
  · rw [wr_nei (by decide), wr_nek (by decide), wr_nek (by decide), wr_nek (by decide), wr_nek (by decide), wr_nek (by decide), wr_nek (by decide), wr_nek (by decide), wr_nei (by decide)]; exact f2
  · obtain ⟨d1, d2, d3, d4⟩ := f4 j hj
    have ef : X'.ff j = X.ff j := by unfold dyD.ff; rw [x6]
    have eb : X'.bs j = X.bs j := by unfold dyD.bs; rw [x6]
    have ej : X'.fj j = X.fj j := by unfold dyD.fj; rw [x6]
    have k0 : ∀ q, q = 212 ∨ q = 214 ∨ q = 215 → ∀ e, rd (wr (wr (wr (wr (wr (wr (wr (wr (wr τ 123 129 (i32 (X.B : Int))) 216 nr (i32 (f : Int))) 217 nr (i32 (k : Int))) 218 nr (i32 (X.B : Int))) 219 nr 0) 220 nr 0) 221 nr 0) 213 (64 * i + k) (i32 (nr : Int))) 123 144 (i32 ((nr + 1 : Nat) : Int))) q e = rd τ q e := fun q hq e => by
      rw [wr_nek (by omega), wr_nek (by omega), wr_nek (by omega), wr_nek (by omega), wr_nek (by omega), wr_nek (by omega), wr_nek (by omega), wr_nek (by omega), wr_nek (by omega)]
    refine ⟨by rw [k0 215 (by omega), ef]; exact d1, by rw [k0 214 (by omega), eb, ej]; exact d2, fun e he hv => by rw [k0 212 (by omega), x8]; rw [x8] at hv; exact d3 e he hv, fun e he hv => ?_⟩
    rw [x7] at hv ⊢
    by_cases q : j = i ∧ e = k
    · rw [if_pos q, q.1, q.2, wr_nek (by decide), wr_self]
    · rw [if_neg q] at hv ⊢
      rw [wr_nek (by decide), wr_nei (by omega), wr_nek (by decide), wr_nek (by decide), wr_nek (by decide), wr_nek (by decide), wr_nek (by decide), wr_nek (by decide), wr_nek (by decide)]
      exact d4 e he hv
  · have k0 : ∀ q, q ≠ 129 → q ≠ 144 → rd (wr (wr (wr (wr (wr (wr (wr (wr (wr τ 123 129 (i32 (X.B : Int))) 216 nr (i32 (f : Int))) 217 nr (i32 (k : Int))) 218 nr (i32 (X.B : Int))) 219 nr 0) 220 nr 0) 221 nr 0) 213 (64 * i + k) (i32 (nr : Int))) 123 144 (i32 ((nr + 1 : Nat) : Int))) 123 q = rd τ 123 q := fun q q1 q2 => by
      rw [wr_nei q2, wr_nek (by decide), wr_nek (by decide), wr_nek (by decide), wr_nek (by decide), wr_nek (by decide), wr_nek (by decide), wr_nek (by decide), wr_nei q1]
    unfold MCn
    rw [k0 122 (by decide) (by decide), k0 123 (by decide) (by decide), k0 125 (by decide) (by decide), k0 126 (by decide) (by decide), k0 127 (by decide) (by decide), k0 128 (by decide) (by decide), k0 130 (by decide) (by decide)]
    refine ⟨c1, c2, c3, c4, c5, c6, ⟨?_, by omega⟩, c8⟩
    rw [wr_nei (by decide), wr_nek (by decide), wr_nek (by decide), wr_nek (by decide), wr_nek (by decide), wr_nek (by decide), wr_nek (by decide), wr_nek (by decide), wr_self, x4, Nat.add_sub_cancel]
  · exact ((((((((frM_w rfl).trans (frM_wr rfl (by decide))).trans (frM_wr rfl (by decide))).trans (frM_wr rfl (by decide))).trans (frM_wr rfl (by decide))).trans (frM_wr rfl (by decide))).trans (frM_wr rfl (by decide))).trans (frM_wr rfl (by decide))).trans (frM_w rfl)
theorem region_full (hR : MRg Y ser nr τ) (hnr : nr = 2000) (x1 x2 : Int32) (d : Nat) : ∃ τ', rn L xs (d + 2) 396 0 [.ref 123, .int x1, .int x2] [] τ = some (.inl (some (.int 0)), τ') ∧ MEn 5 τ τ' := by
  obtain ⟨r1, r2, r3⟩ := hR
  obtain ⟨s, a1, a2⟩ := end_m (L := L) (xs := xs) (τ := τ) 5 d
  refine ⟨s, ?_, a2⟩
  have a1 : rn L xs (d + 1) 395 0 [.ref 123, .int 5] [] τ = some (.inl none, s) := a1
  rw [e396_0 (d + 1), r1, show (2000 : Int32) = i32 2000 from rfl, c2_ne (by omega) (by omega) (by omega) (by omega), c_f (by omega), bV_ok a1]
/-- a variable is looked up: on the stack -/
theorem look_st {v e k : Nat} (hS : MSt n sv τ) (hF : MFr X i τ) (h147 : rd τ 147 v = i32 (e : Int)) (hv : v < 3002) (he : e < 64) (ha : X.aV i e = (k : Int)) (hk : k < n) (v2 v3 : Value) (d : Nat) :
    ∃ τ', rn L xs (d + 1) 420 0 [.ref 123, .int (i32 (v : Int)), v2, v3] [] τ = some (.inl none, τ') ∧ rd τ' 123 167 = i32 ((sv k).1 : Int) ∧ rd τ' 123 168 = (sv k).2 ∧ frM [] [167, 168] τ τ' := by
  obtain ⟨s1, s2, s3⟩ := hS
  obtain ⟨f1, f2, f3, f4⟩ := hF
  obtain ⟨d1, d2, d3, d4⟩ := f4 i (Nat.le_refl _)
  have r := d3 e he (by omega)
  have e2 : (64 : Int32) * i32 (i : Int) + i32 (e : Int) = i32 ((64 * i + e : Nat) : Int) := by rw [show (64 : Int32) = i32 64 from rfl, i32_mul, i32_add]; congr 1
  obtain ⟨g1, g2⟩ := s3 k hk
  refine ⟨wr (wr τ 123 167 (i32 ((sv k).1 : Int))) 123 168 (sv k).2, ?_, by rw [wr_nei (by decide), wr_self], wr_self _ _ _ _, (frM_w rfl).trans (frM_w rfl)⟩
  rw [e420_0, c_in (by omega) (by omega) (by omega), i32_ixn (by omega), h147, f1, e2, c_in (by omega) (by omega) (by omega), i32_ixn (by omega), r, ha, c1_lt (by omega) (by omega), c_f (by omega), c_in (by omega) (by omega) (by omega), c_in (by omega) (by omega) (by omega), i32_ixn (by omega), g1, g2, e420_100]
/-- in the closure -/
theorem look_cl {v e c o : Nat} {w : vaL} (hS : MSt n X.sv τ) (hF : MFr X i τ) (hO : MOb X n oa fil τ) (hno : X.no ≤ 30000) (h147 : rd τ 147 v = i32 (e : Int)) (hv : v < 3002) (he : e < 64) (ha : X.aV i e = -2 - (c : Int)) (hj : 0 ≤ X.fj i) (hb : X.bs i < n) (ho : X.sv (X.bs i) = (2, i32 (o : Int))) (h1 : 1 ≤ o) (h2 : o ≤ X.no) (hw : (X.hp o).co[c]? = some w) (v2 v3 : Value) (d : Nat) :
    ∃ τ', rn L xs (d + 1) 420 0 [.ref 123, .int (i32 (v : Int)), v2, v3] [] τ = some (.inl none, τ') ∧ rd τ' 123 167 = i32 (w.1 : Int) ∧ rd τ' 123 168 = w.2 ∧ frM [] [167, 168] τ τ' := by
  obtain ⟨s1, s2, s3⟩ := hS
  obtain ⟨f1, f2, f3, f4⟩ := hF
  obtain ⟨d1, d2, d3, d4⟩ := f4 i (Nat.le_refl _)
  have r := d3 e he (by omega)
  rw [if_pos hj] at d2
  have e2 : (64 : Int32) * i32 (i : Int) + i32 (e : Int) = i32 ((64 * i + e : Nat) : Int) := by rw [show (64 : Int32) = i32 64 from rfl, i32_mul, i32_add]; congr 1
  obtain ⟨g1, g2⟩ := s3 _ hb
  rw [ho] at g2
  have g2 : rd τ 208 (X.bs i) = i32 (o : Int) := g2
  obtain ⟨⟨q1, q2, q3⟩, q4⟩ := hO.2.2.2.2.1 o ⟨X.bs i, hb, 0, ho, h1, h2⟩
  have hfil := hO.2.2.1
  have hc : c < (X.hp o).co.length := (List.getElem?_eq_some_iff.mp hw).1
  have hl := (hO.2.2.2.1 o h1 h2).2.1
  obtain ⟨m1, m2⟩ := q2 c w hw
  have e3 : (i32 (oa o : Int) - 2) - i32 (-2 - (c : Int)) = i32 ((oa o + c : Nat) : Int) := by rw [show (2 : Int32) = i32 2 from rfl, i32_sub, i32_sub]; congr 1; omega
  refine ⟨wr (wr τ 123 167 (i32 (w.1 : Int))) 123 168 w.2, ?_, by rw [wr_nei (by decide), wr_self], wr_self _ _ _ _, (frM_w rfl).trans (frM_w rfl)⟩
  rw [e420_0, c_in (by omega) (by omega) (by omega), i32_ixn (by omega), h147, f1, e2, c_in (by omega) (by omega) (by omega), i32_ixn (by omega), r, ha, c1_lt (by omega) (by omega), c_t (by omega), e420_47, f1, c_in (by omega) (by omega) (by omega), i32_ixn (by omega), d2, c_in (by omega) (by omega) (by omega), i32_ixn (by omega), g2, c_in (by omega) (by omega) (by omega), i32_ixn (by omega), q1, e3, c_in (by omega) (by omega) (by omega), c_in (by omega) (by omega) (by omega), c_in (by omega) (by omega) (by omega), i32_ixn (by omega), m1, m2, e420_100]
/-- it is filled in -/
theorem fill_m {fil : Nat} (h : rd τ 123 164 = i32 (fil : Int)) (hf : fil < 201000) (x1 x2 : Int32) (d : Nat) : ∃ τ', rn L xs (d + 1) 409 0 [.ref 123, .int x1, .int x2] [] τ = some (.inl none, τ') ∧ rd τ' 123 164 = i32 ((fil + 1 : Nat) : Int) ∧ rd τ' 234 fil = x1 ∧ rd τ' 235 fil = x2 ∧ (∀ k, k ≠ fil → rd τ' 234 k = rd τ 234 k ∧ rd τ' 235 k = rd τ 235 k) ∧ frM [234, 235] [164] τ τ' := by
  refine ⟨wr (wr (wr τ 234 fil x1) 235 fil x2) 123 164 (i32 ((fil + 1 : Nat) : Int)), ?_, wr_self _ _ _ _, ?_, ?_, fun k hk => ⟨?_, ?_⟩, ((frM_wr rfl (by decide)).trans (frM_wr rfl (by decide))).trans (frM_w rfl)⟩
  · rw [e409_0, h, c_in (by omega) (by omega) (by omega), c_in (by omega) (by omega) (by omega), i32_ixn (by omega), i32_up]
  · rw [wr_nek (by decide), wr_nek (by decide), wr_self]
  · rw [wr_nek (by decide), wr_self]
  · rw [wr_nek (by decide), wr_nek (by decide), wr_nei hk]
  · rw [wr_nek (by decide), wr_nei hk, wr_nek (by decide)]
end MODELOPS
