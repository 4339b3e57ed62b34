/-! RUNS, MODEL: numbers are reckoned, parts are taken, choices -/
/-- by the kind of the part -/
def arR (κ : Nat) (a b : Int32) : Int32 := if κ = 8 then a + b else if κ = 9 then a - b else if κ = 10 then a * b else if κ = 11 then a / b else if κ = 12 then a - a / b * b else if κ = 13 then (if pv_c2 .ne a b = true then 0 else 1) else if κ = 14 then (if pv_c2 .ge a b = true then 0 else 1) else (if pv_c2 .gt a b = true then 0 else 1)
section MOPS
variable {L : Nat} {xs : Nat → Int32} {τ τ' τ0 τ1 : tvS} {D : pgD} {rg : rgD} {cd : cdD} {vd : Nat → Nat} {N m : Nat} {G : tG} {rr : Nat → Nat} {X X' : dyD} {K : List (Nat × Nat × Nat)} {n n' nr i st mt wd pgs ev fil f p r Nq sz o : Nat} {s : cSt} {fn : Nat → Nat × Nat} {oa : Nat → Nat} {x : obD} {A : alD}
/-- the stack is other, all else stays -/
theorem MSk.stack {S F : List Nat} (h : MSk fn s X n nr st oa fil mt pgs wd ev τ) (hS : MSt n' X'.sv τ') (w : frM S F τ τ') (hs : (S.all fun k => inL [207, 208, 212, 209, 210, 211] k) = true) (hf : (F.all fun k => inL [132, 135, 167, 168] k) = true) (e1 : X'.hp = X.hp) (e2 : X'.no = X.no) (e3 : X'.B = X.B) (e4 : X'.ser = X.ser) (hR : ∀ o, RCO X' n' o → RCO X n o) : MSk fn s X' n' nr st oa fil mt pgs wd ev τ' := by
  obtain ⟨h1, h2, h3, h4, h5, h6, h7, h8, h9⟩ := h
  have w' : frM [207, 208, 212, 209, 210, 211] [132, 135, 167, 168] τ τ' := w.sub hs hf
  have hO := h2.fr w' ⟨rfl, rfl, rfl, rfl, rfl, rfl, rfl, rfl, rfl⟩ ⟨rfl, rfl⟩
  obtain ⟨a, b, c, d, e, g⟩ := hO
  refine ⟨hS, ⟨by rw [e2]; exact a, b, c, by rw [e1, e2]; exact d, fun o ho => by rw [e1]; exact e o (hR o ho), fun o o' ho ho' hl => by rw [e1]; exact g o o' (hR o ho) (hR o' ho') hl⟩, by rw [e3, e4]; exact h3.fr w' ⟨rfl, rfl, rfl, rfl, rfl, rfl⟩ ⟨rfl, rfl, rfl, rfl, rfl, rfl, rfl, rfl, rfl⟩, by rw [e2]; exact h4.fr w' rfl rfl, by rw [e2]; exact h5, h6, by rw [w'.2 119 rfl]; exact h7, by rw [w'.2 120 rfl]; exact h8, by rw [w'.2 121 rfl]; exact h9⟩
theorem nz_false {b : Int32} (h : b ≠ 0) : (!(decide (b = 0))) = true := by rw [decide_eq_false h]; rfl
/-- numbers are reckoned -/
theorem reck_m (hκ : 8 ≤ D.K p ∧ D.K p ≤ 15) (hM : MSk fn s X n nr st oa fil mt pgs wd ev τ) (hn : 2 ≤ n) (d : Nat) :
    ((D.K p = 11 ∨ D.K p = 12) ∧ (X.sv (n - 1)).2 = 0 ∧ ∃ τ', rn L xs (d + 2) 410 0 [.ref 123, .int (i32 (opS (D.K p) : Nat)), jv, jv, jv] [] τ = some (.inl none, τ') ∧ MEn 6 τ τ') ∨
    (¬ ((D.K p = 11 ∨ D.K p = 12) ∧ (X.sv (n - 1)).2 = 0) ∧ ∃ τ', rn L xs (d + 2) 410 0 [.ref 123, .int (i32 (opS (D.K p) : Nat)), jv, jv, jv] [] τ = some (.inl none, τ') ∧ rd τ' 123 132 = i32 ((n - 1 : Nat) : Int) ∧ rd τ' 208 (n - 2) = arR (D.K p) (X.sv (n - 2)).2 (X.sv (n - 1)).2 ∧ (∀ k, k ≠ n - 2 → rd τ' 208 k = rd τ 208 k) ∧ frM [208] [132] τ τ') := by
  obtain ⟨⟨s1, s2, s3⟩, _⟩ := hM
  obtain ⟨q1, q2⟩ := s3 (n - 2) (by omega)
  obtain ⟨q3, q4⟩ := s3 (n - 1) (by omega)
  obtain ⟨a, ha⟩ : ∃ a, a = (X.sv (n - 2)).2 := ⟨_, rfl⟩
  obtain ⟨b, hb⟩ : ∃ b, b = (X.sv (n - 1)).2 := ⟨_, rfl⟩
  rw [← ha] at q2 ⊢
  rw [← hb] at q4 ⊢
  have en2 : i32 (n : Int) - 2 = i32 ((n - 2 : Nat) : Int) := by rw [show (2 : Int32) = i32 2 from rfl, i32_sub]; congr 1; omega
  have en1 : i32 (n : Int) - 1 = i32 ((n - 1 : Nat) : Int) := by rw [show (1 : Int32) = i32 1 from rfl, i32_sub]; congr 1; omega
  have en11 : i32 ((n - 1 : Nat) : Int) - 1 = i32 ((n - 2 : Nat) : Int) := by rw [show (1 : Int32) = i32 1 from rfl, i32_sub]; congr 1; omega
  have h33 : ∀ x, x < 16 → 8 ≤ x → (opS x = 33 ↔ x = 11) ∧ (opS x = 34 ↔ x = 12) ∧ opS x < 40 := by decide
  obtain ⟨o1, o2, o3⟩ := h33 (D.K p) (by omega) hκ.1
  have last : ∀ (v1 v2 v3 : Value) (y : Int32), ∃ τ', rn L xs (d + 2) 410 202 [.ref 123, v1, v2, v3, .int y] [] τ = some (.inl none, τ') ∧ rd τ' 123 132 = i32 ((n - 1 : Nat) : Int) ∧ rd τ' 208 (n - 2) = y ∧ (∀ k, k ≠ n - 2 → rd τ' 208 k = rd τ 208 k) ∧ frM [208] [132] τ τ' := fun v1 v2 v3 y => by
    refine ⟨wr (wr τ 123 132 (i32 ((n - 1 : Nat) : Int))) 208 (n - 2) y, ?_, by rw [wr_nek (by decide), wr_self], wr_self _ _ _ _, fun k hk => by rw [wr_nei hk, wr_nek (by decide)], (frM_w rfl).trans (frM_wr rfl (by decide))⟩
    rw [e410_202, s1, en1, en11, c_in (by omega) (by omega) (by omega), i32_ixn (by omega)]
  have mid : ¬ ((D.K p = 11 ∨ D.K p = 12) ∧ b = 0) → ∃ τ', rn L xs (d + 2) 410 47 [.ref 123, .int (i32 (opS (D.K p) : Nat)), .int a, .int b, jv] [] τ = some (.inl none, τ') ∧ rd τ' 123 132 = i32 ((n - 1 : Nat) : Int) ∧ rd τ' 208 (n - 2) = arR (D.K p) a b ∧ (∀ k, k ≠ n - 2 → rd τ' 208 k = rd τ 208 k) ∧ frM [208] [132] τ τ' := by
    intro hz
    rw [e410_47, swk_of (sw410 (D.K p) (by omega) hκ.1)]
    have ek : D.K p = 8 ∨ D.K p = 9 ∨ D.K p = 10 ∨ D.K p = 11 ∨ D.K p = 12 ∨ D.K p = 13 ∨ D.K p = 14 ∨ D.K p = 15 := by omega
    rcases ek with e | e | e | e | e | e | e | e <;> rw [e]
    · rw [show t410 8 = 120 from rfl, e410_120]; exact last _ _ _ (a + b)
    · rw [show t410 9 = 128 from rfl, e410_128]; exact last _ _ _ (a - b)
    · rw [show t410 10 = 136 from rfl, e410_136]; exact last _ _ _ (a * b)
    · rw [show t410 11 = 144 from rfl, e410_144, nz_false (fun h => hz ⟨.inl e, h⟩), cond_true]; exact last _ _ _ (a / b)
    · rw [show t410 12 = 152 from rfl, e410_152, nz_false (fun h => hz ⟨.inr e, h⟩), cond_true]; exact last _ _ _ (a - a / b * b)
    · rw [show t410 13 = 160 from rfl, e410_160]
      have er : arR 13 a b = (if pv_c2 .ne a b = true then 0 else 1) := rfl
      rw [er]
      cases pv_c2 .ne a b with
      | true => rw [cond_true, e410_169, e410_170, if_pos rfl]; exact last _ _ _ 0
      | false => rw [cond_false, e410_170, if_neg (by decide)]; exact last _ _ _ 1
    · rw [show t410 14 = 175 from rfl, e410_175]
      have er : arR 14 a b = (if pv_c2 .ge a b = true then 0 else 1) := rfl
      rw [er]
      cases pv_c2 .ge a b with
      | true => rw [cond_true, e410_184, e410_185, if_pos rfl]; exact last _ _ _ 0
      | false => rw [cond_false, e410_185, if_neg (by decide)]; exact last _ _ _ 1
    · rw [show t410 15 = 190 from rfl, e410_190]
      have er : arR 15 a b = (if pv_c2 .gt a b = true then 0 else 1) := rfl
      rw [er]
      cases pv_c2 .gt a b with
      | true => rw [cond_true, e410_199, e410_200, if_pos rfl]; exact last _ _ _ 0
      | false => rw [cond_false, e410_200, if_neg (by decide)]; exact last _ _ _ 1
  have head : rn L xs (d + 2) 410 0 [.ref 123, .int (i32 (opS (D.K p) : Nat)), jv, jv, jv] [] τ = (if D.K p = 11 ∨ D.K p = 12 then rn L xs (d + 2) 410 36 [.ref 123, .int (i32 (opS (D.K p) : Nat)), .int a, .int b, jv] [] τ else rn L xs (d + 2) 410 47 [.ref 123, .int (i32 (opS (D.K p) : Nat)), .int a, .int b, jv] [] τ) := by
    rw [e410_0, s1, en2, en1, c_in (by omega) (by omega) (by omega), c_in (by omega) (by omega) (by omega), i32_ixn (by omega), i32_ixn (by omega), q2, q4, show (33 : Int32) = i32 33 from rfl, c2_eq (by omega) (by omega) (by omega) (by omega), show (34 : Int32) = i32 34 from rfl, c2_ne (by omega) (by omega) (by omega) (by omega)]
    by_cases e1 : D.K p = 11
    · rw [c_t (by have := o1.mpr e1; omega), if_pos (.inl e1)]
    · rw [c_f (by omega)]
      by_cases e2 : D.K p = 12
      · rw [c_f (by have := o2.mpr e2; omega), if_pos (.inr e2)]
      · rw [c_t (by omega), if_neg (by omega)]
  rw [head]
  by_cases c : D.K p = 11 ∨ D.K p = 12
  · rw [if_pos c, e410_36 (d + 1)]
    by_cases z : b = 0
    · obtain ⟨t, g1, g2⟩ := end_m (L := L) (xs := xs) (τ := τ) 6 d
      have g1 : rn L xs (d + 1) 395 0 [.ref 123, .int 6] [] τ = some (.inl none, t) := g1
      refine .inl ⟨c, z, t, ?_, g2⟩
      rw [z, show pv_c1 .ne (0 : Int32) = false from rfl, cond_false, bV_ok g1]
    · refine .inr ⟨fun h => z h.2, ?_⟩
      have : pv_c1 .ne b = true := by
        rw [c1_nex]
        exact decide_eq_true (fun h => z (by rw [← i32_of b, h]; rfl))
      rw [this, cond_true]
      exact mid (fun h => z h.2)
  · rw [if_neg c]
    exact .inr ⟨fun h => c h.1, mid (fun h => c h.1)⟩
/-- a part of a pair is taken -/
theorem take_m {w : vaL} {q : Nat} (hRS : RSp D cd τ p) (hp : p < 6000) (hκ : (D.K p = 5 ∧ q = 0) ∨ (D.K p = 6 ∧ q = 1)) (hM : MSk fn s X n nr st oa fil mt pgs wd ev τ) (hn : 1 ≤ n) (hno : X.no ≤ 30000) (ho : X.sv (n - 1) = (2, i32 (o : Int))) (h1 : 1 ≤ o) (h2 : o ≤ X.no) (hg : (X.hp o).gi < nr) (hs : X.ser (X.hp o).gi = (X.hp o).se) (hw : (X.hp o).co[q]? = some w) (d : Nat) :
    ∃ τ', rn L xs (d + 2) 411 0 [.ref 123, .int (i32 (p : Int)), jv, jv, jv] [] τ = some (.inl none, τ') ∧ MSt n (uq X.sv (n - 1) w) τ' ∧ frM [207, 208] [130] τ τ' ∧ rd τ' 123 130 = 0 := by
  obtain ⟨⟨s1, s2, s3⟩, hO, ⟨hR, hC⟩, _⟩ := hM
  obtain ⟨q3, q4⟩ := s3 (n - 1) (by omega)
  rw [ho] at q4
  have q4 : rd τ 208 (n - 1) = i32 (o : Int) := q4
  have en1 : i32 (n : Int) - 1 = i32 ((n - 1 : Nat) : Int) := by rw [show (1 : Int32) = i32 1 from rfl, i32_sub]; congr 1; omega
  obtain ⟨τ1, a1, a2, a3⟩ := stray_m (L := L) (xs := xs) hO hR hC h1 h2 hno hg hs jv jv d
  obtain ⟨⟨g1, g2, g3⟩, g4⟩ := hO.2.2.2.2.1 o ⟨n - 1, by omega, 0, ho, h1, h2⟩
  have hl := (hO.2.2.2.1 o h1 h2).2.1
  have hfil := hO.2.2.1
  have hq := (List.getElem?_eq_some_iff.mp hw).1
  obtain ⟨y1, y2⟩ := g2 q w hw
  obtain ⟨_, _, _, _, _, r5, r6, _⟩ := hRS
  obtain ⟨τ2, e2⟩ : ∃ τ2, τ2 = wr (wr τ1 207 (n - 1) (i32 (w.1 : Int))) 208 (n - 1) w.2 := ⟨_, rfl⟩
  have w12 : frM [207, 208] [] τ1 τ2 := by rw [e2]; exact (frM_wr rfl (by decide)).trans (frM_wr rfl (by decide))
  have last : ∀ v1 v2 v3 v4 : Value, rn L xs (d + 2) 411 40 [.ref 123, v1, v2, v3, v4] [.int (i32 (q : Int)), .int (i32 (oa o : Int))] τ1 = some (.inl none, τ2) := fun v1 v2 v3 v4 => by
    have e1 : i32 (oa o : Int) + i32 (q : Int) = i32 ((oa o + q : Nat) : Int) := by rw [i32_add]; congr 1
    rw [e411_40, e1, c_in (by omega) (by omega) (by omega), a2.2 132 rfl, s1, en1, c_in (by omega) (by omega) (by omega), c_in (by omega) (by omega) (by omega), c_in (by omega) (by omega) (by omega), i32_ixn (by omega), i32_ixn (by omega), a2.rd (j := 234) rfl, a2.rd (j := 235) rfl, y1, y2, ← e2]
  refine ⟨τ2, ?_, ⟨?_, s2, fun k hk => ?_⟩, (a2.sub rfl rfl).trans (w12.sub rfl rfl), by rw [w12.2 130 rfl]; exact a3.2.2.2.2.2.2.2⟩
  · rw [e411_0 (d + 1), s1, en1, c_in (by omega) (by omega) (by omega), i32_ixn (by omega), q4, bI_ok a1, c_in (by omega) (by omega) (by omega), c_in (by omega) (by omega) (by omega), i32_ixn (by omega), i32_ixn (by omega), a2.rd (j := 230) rfl, g1, a2.rd (j := 157) rfl]
    rcases hκ with ⟨e, eq⟩ | ⟨e, eq⟩
    · subst eq
      rw [r5 e, show (14 : Int32) = i32 14 from rfl, c2_ne (by omega) (by omega) (by omega) (by omega), c_f (by omega)]
      exact last _ _ _ _
    · subst eq
      rw [r6 e, show (14 : Int32) = i32 14 from rfl, c2_ne (by omega) (by omega) (by omega) (by omega), c_t (by omega), e411_39]
      exact last _ _ _ _
  · rw [w12.2 132 rfl, a2.2 132 rfl]; exact s1
  · by_cases e : k = n - 1
    · subst e
      rw [uq_self, e2, wr_nek (by decide), wr_self, wr_self]; exact ⟨rfl, rfl⟩
    · rw [uq_ne e, e2, wr_nek (by decide), wr_nei e, wr_nei e, wr_nek (by decide), a2.rd (j := 207) rfl, a2.rd (j := 208) rfl]
      exact s3 k (by omega)
/-- where a variable lies is told -/
def upV (X : dyD) (i e : Nat) (k : Int) : dyD := (X.sv, X.2.1, X.ser, X.fr, X.aR, fun j e' => if j = i ∧ e' = e then k else X.aV j e')
theorem MFr.upV {e k : Nat} (h : MFr X i τ) (he : e < 64) (hσ : τ' = wr τ 212 (64 * i + e) (i32 (k : Int))) : MFr (upV X i e (k : Int)) i τ' := by
  obtain ⟨f1, f2, f3, f4⟩ := h
  rw [hσ]
  refine ⟨by rw [wr_nek (by decide)]; exact f1, by rw [wr_nek (by decide)]; exact f2, f3, fun j hj => ?_⟩
  obtain ⟨d1, d2, d3, d4⟩ := f4 j hj
  refine ⟨by rw [wr_nek (by decide)]; exact d1, by rw [wr_nek (by decide)]; exact d2, fun e' he' hv => ?_, fun k' hk' hv => by rw [wr_nek (by decide)]; exact d4 k' hk' hv⟩
  show rd _ 212 _ = i32 (if j = i ∧ e' = e then (k : Int) else X.aV j e')
  have hv : (if j = i ∧ e' = e then (k : Int) else X.aV j e') < 5000 := hv
  by_cases c : j = i ∧ e' = e
  · rw [if_pos c, c.1, c.2, wr_self]
  · rw [if_neg c] at hv ⊢
    rw [wr_nei (by omega)]; exact d3 e' he' hv
end MOPS
