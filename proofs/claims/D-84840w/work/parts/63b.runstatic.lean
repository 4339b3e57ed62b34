/-! RUNS, MODEL: what it reads of the program -/
/-- of a part -/
def RSp (D : pgD) (cd : cdD) (τ : tvS) (p : Nat) : Prop :=
  rd τ 151 p = i32 (mKd (D.K p) : Int) ∧ (D.K p ≠ 3 → ∀ w, w < 3 → rd τ (154 + w) p = kid (D.kd p) w) ∧
  (D.K p = 3 → rd τ 162 p = i32 (D.gb p : Int) ∧ rd τ 163 p = i32 ((D.kd p).length : Int) ∧ D.gb p + (D.kd p).length ≤ 6000 ∧ ∀ w c : Nat, (D.kd p)[w]? = some c → rd τ 164 (D.gb p + w) = i32 (c : Int)) ∧
  ((D.K p = 2 ∨ D.K p = 3 ∨ D.K p = 19 ∨ D.K p = 20 → rd τ 157 p = i32 (D.vl p : Int)) ∧ (D.K p = 17 → rd τ 157 p = i32 (D.gv (D.vl p) : Int)) ∧ (D.K p = 5 → rd τ 157 p = i32 14) ∧ (D.K p = 6 → rd τ 157 p = i32 15) ∧ (D.K p = 0 → rd τ 157 p = cd.vw p) ∧ (8 ≤ D.K p → D.K p ≤ 15 → rd τ 157 p = i32 (opS (D.K p) : Nat)))
/-- numbers of a part -/
def RSn (D : pgD) (rg : rgD) (cd : cdD) (N : Nat) (r : Nat → Nat) (τ : tvS) (f q : Nat) : Prop :=
  (D.K q = 4 ∨ D.K q = 16 ∨ D.K q = 17 → ∃ x : Nat, rd τ 178 q = i32 (x : Int) ∧ x < N ∧ rd τ 184 (r x) = i32 (rg.nu q 0 : Int)) ∧
  (D.K q = 3 → D.vl q < f → ∃ n1 : Nat, rd τ 181 q = i32 (n1 : Int) ∧ n1 + D.bk (D.vl q) + 1 + (rg.gl (D.vl q)).length ≤ 60000 ∧ ∀ i, i < (rg.gl (D.vl q)).length → ∃ x : Nat, rd τ 182 (n1 + D.bk (D.vl q) + 1 + i) = i32 (x : Int) ∧ x < N ∧ rd τ 184 (r x) = i32 (rg.nu q i : Int)) ∧
  (D.K q = 17 → ∃ cf kf : Nat, cf + (cd.cg (D.vl q)).length ≤ 30000 ∧ kf + (rg.kp (D.vl q)).length ≤ 40000 ∧ KPF q cf kf (cd.cg (D.vl q)) (rg.kp (D.vl q)) τ)
/-- of a function -/
def RSf (D : pgD) (rg : rgD) (τ : tvS) (f : Nat) : Prop :=
  (rd τ 142 f = i32 ((D.bP (f + 1) - 1 : Nat) : Int) ∧ rd τ 143 (f + 1) = i32 (D.bP (f + 1) : Int) ∧ rd τ 140 f = i32 (D.bk f : Int)) ∧ rd τ 190 f = i32 (rg.nK f : Int) ∧ rd τ 191 f = i32 ((rg.gl f).length : Int) ∧ (∀ i, i < (rg.gl f).length → rd τ 192 (64 * f + i) = i32 ((rg.gl f).getD i 0 : Nat)) ∧ ∀ k, k < rg.nK f → rd τ 194 (64 * f + k + 1) = i32 (rg.ow f k)
def RSm (D : pgD) (rg : rgD) (cd : cdD) (vd : Nat → Nat) (N : Nat) (G : tG) (r : Nat → Nat) (τ : tvS) : Prop :=
  TM N G r τ ∧ (∀ f, f ≤ D.fc → RSf D rg τ f) ∧ (∀ p, p < D.bP (D.fc + 1) → RSp D cd τ p) ∧ (∀ v, v < D.tV (D.fc + 1) → rd τ 147 v = i32 (vd v : Int) ∧ vd v < 64) ∧ ∀ f q, f ≤ D.fc → D.bP f ≤ q → q < D.bP (f + 1) → RSn D rg cd N r τ f q
/-- what a run of the model writes -/
def RAr : List Nat := [169, 207, 208, 209, 210, 211, 212, 213, 214, 215, 216, 217, 218, 219, 220, 221, 222, 223, 224, 225, 226, 227, 228, 229, 230, 231, 232, 233, 234, 235]
def RFl : List Nat := [122, 123, 124, 125, 126, 127, 128, 129, 130, 131, 132, 135, 139, 144, 162, 164, 167, 168]
section RSMFR
variable {L : Nat} {xs : Nat → Int32} {τ τ' : tvS} {D : pgD} {rg : rgD} {cd : cdD} {vd : Nat → Nat} {N : Nat} {G : tG} {r : Nat → Nat} {m f p : Nat}
theorem RSp.to (h : RSp D cd τ p) (hw : ∀ j, j = 151 ∨ j = 154 ∨ j = 155 ∨ j = 156 ∨ j = 157 ∨ j = 162 ∨ j = 163 ∨ j = 164 → ∀ i, rd τ' j i = rd τ j i) : RSp D cd τ' p := by
  obtain ⟨a, b, c, d1, d2, d3, d4, d5, d6⟩ := h
  have e := hw 157 (by omega) p
  refine ⟨by rw [hw 151 (by omega)]; exact a, fun k w h1 => ?_, fun k => ?_, by rw [e]; exact d1, by rw [e]; exact d2, by rw [e]; exact d3, by rw [e]; exact d4, by rw [e]; exact d5, by rw [e]; exact d6⟩
  · rw [hw (154 + w) (by omega)]; exact b k w h1
  · obtain ⟨c1, c2, c3, c4⟩ := c k
    exact ⟨by rw [hw 162 (by omega)]; exact c1, by rw [hw 163 (by omega)]; exact c2, c3, fun w c hc => by rw [hw 164 (by omega)]; exact c4 w c hc⟩
theorem RSm.to (h : RSm D rg cd vd N G r τ) (hT : TM N G r τ') (w : frM RAr RFl τ τ') : RSm D rg cd vd N G r τ' := by
  obtain ⟨_, h2, h3, h4, h5⟩ := h
  refine ⟨hT, fun f hf => ?_, fun p hp => (h3 p hp).to (fun j hj i => ?_), fun v hv => by rw [w.rd (j := 147) rfl]; exact h4 v hv, fun f q hf q1 q2 => ?_⟩
  · obtain ⟨⟨a1, a2, a3⟩, a4, a5, a6, a7⟩ := h2 f hf
    exact ⟨⟨by rw [w.rd (j := 142) rfl]; exact a1, by rw [w.rd (j := 143) rfl]; exact a2, by rw [w.rd (j := 140) rfl]; exact a3⟩, by rw [w.rd (j := 190) rfl]; exact a4, by rw [w.rd (j := 191) rfl]; exact a5, fun i hi => by rw [w.rd (j := 192) rfl]; exact a6 i hi, fun k hk => by rw [w.rd (j := 194) rfl]; exact a7 k hk⟩
  · rcases hj with e | e | e | e | e | e | e | e <;> rw [e] <;> exact w.rd rfl i
  · obtain ⟨b1, b2, b3⟩ := h5 f q hf q1 q2
    refine ⟨fun k => ?_, fun k k' => ?_, fun k => ?_⟩
    · obtain ⟨x, x1, x2, x3⟩ := b1 k
      exact ⟨x, by rw [w.rd (j := 178) rfl]; exact x1, x2, by rw [w.rd (j := 184) rfl]; exact x3⟩
    · obtain ⟨n1, x1, x2, x3⟩ := b2 k k'
      refine ⟨n1, by rw [w.rd (j := 181) rfl]; exact x1, x2, fun i hi => ?_⟩
      obtain ⟨x, y1, y2, y3⟩ := x3 i hi
      exact ⟨x, by rw [w.rd (j := 182) rfl]; exact y1, y2, by rw [w.rd (j := 184) rfl]; exact y3⟩
    · obtain ⟨cf, kf, c1, c2, c3, c4, c5, c6, c7, c8⟩ := b3 k
      exact ⟨cf, kf, c1, c2, by rw [w.rd (j := 196) rfl]; exact c3, by rw [w.rd (j := 197) rfl]; exact c4, fun i hi => by rw [w.rd (j := 198) rfl]; exact c5 i hi, by rw [w.rd (j := 199) rfl]; exact c6, by rw [w.rd (j := 200) rfl]; exact c7, fun i hi => by rw [w.rd (j := 201) rfl]; exact c8 i hi⟩
theorem RSm.fr {S F : List Nat} (h : RSm D rg cd vd N G r τ) (w : frM S F τ τ') (hS : (S.all fun k => inL RAr k) = true) (hF : (F.all fun k => inL RFl k) = true) (h1 : inL S 169 = false) : RSm D rg cd vd N G r τ' := by
  have w' := w.sub hS hF
  refine h.to (h.1.fr w (inL_sub hF 63 rfl) ⟨inL_sub hS 166 rfl, inL_sub hS 167 rfl, inL_sub hS 168 rfl, h1⟩) w'
/-- the number of a part's region -/
theorem numb_m (h : RSm D rg cd vd N G r τ) (hF : PGF D m) (hf : f ≤ D.fc) (h1 : D.bP f ≤ p) (h2 : p < D.bP (f + 1)) (hk : D.K p = 4 ∨ D.K p = 16 ∨ D.K p = 17) (d : Nat) :
    ∃ τ', rn L xs (d + 2) 381 0 [.ref 123, .int (i32 (p : Int))] [] τ = some (.inl (some (.int (i32 (rg.nu p 0 : Int)))), τ') ∧ RSm D rg cd vd N G r τ' ∧ frM [169] [] τ τ' := by
  have hb := hF.1
  have hbl := (hF.le (D.fc + 1 - (f + 1)) (f + 1) (by omega))
  obtain ⟨x, x1, x2, x3⟩ := (h.2.2.2.2 f p hf h1 h2).1 hk
  obtain ⟨τ', a1, a2, a3⟩ := find_M (L := L) (xs := xs) h.1 x2 d jv jv jv
  have hr := h.1.rlt x2
  have hN := h.1.2.2.1
  refine ⟨τ', ?_, h.to a2 (a3.sub rfl rfl), a3⟩
  rw [e381_0 (d + 1), c_in (by omega) (by omega) (by omega), i32_ixn (by omega), x1, bI_ok a1, c_in (by omega) (by omega) (by omega), i32_ixn (by omega), a3.rd (j := 184) rfl, x3]
/-- what a call hands on -/
theorem hand_m {i : Nat} (h : RSm D rg cd vd N G r τ) (hF : PGF D m) (hf : f ≤ D.fc) (h1 : D.bP f ≤ p) (h2 : p < D.bP (f + 1)) (hk : D.K p = 3) (hi : i < (rg.gl (D.vl p)).length) (hil : (rg.gl (D.vl p)).length ≤ 60) (d : Nat) :
    ∃ τ', rn L xs (d + 2) 369 0 [.ref 123, .int (i32 (f : Int)), .int (i32 (p : Int)), .int (i32 (i : Int)), jv] [] τ = some (.inl (some (.int (i32 (handN D rg f p i : Int)))), τ') ∧ RSm D rg cd vd N G r τ' ∧ frM [169] [] τ τ' := by
  have hb := hF.1
  have hbl := (hF.le (D.fc + 1 - (f + 1)) (f + 1) (by omega))
  obtain ⟨a1, a2, a3, a4, _⟩ := h.2.2.1 p (by omega)
  obtain ⟨b1, b2, b3, b4⟩ := ((hF.2.2 f hf).2.2.1 p h1 h2).2.2.2.1 hk
  have e157 := a4 (.inr (.inl hk))
  have e350 : rn L xs (d + 1) 350 0 [.ref 123, .int (i32 (p : Int))] [] τ = some (.inl (some (.int 0)), τ) := by
    rw [e350_0, c_in (by omega) (by omega) (by omega), i32_ixn (by omega), a1, hk, show pv_c2 .eq (i32 (mKd 3 : Int)) 5 = false from rfl, cond_false, c_in (by omega) (by omega) (by omega), show pv_c2 .eq (i32 (mKd 3 : Int)) 9 = false from rfl, cond_false, c_in (by omega) (by omega) (by omega), show pv_c2 .ne (i32 (mKd 3 : Int)) 10 = true from rfl, cond_true, e350_36, e350_37, b01_0, cond_true]
  have head : rn L xs (d + 2) 369 0 [.ref 123, .int (i32 (f : Int)), .int (i32 (p : Int)), .int (i32 (i : Int)), jv] [] τ = cond (pv_c2 .ne (i32 (D.vl p : Int)) (i32 (f : Int))) (rn L xs (d + 2) 369 52 [.ref 123, .int (i32 (f : Int)), .int (i32 (p : Int)), .int (i32 (i : Int)), .int (i32 (D.vl p : Int))] [] τ) (cond (pv_in (64 * i32 (f : Int) + i32 (i : Int)) 1408) (rn L xs (d + 2) 369 84 [.ref 123, .int (i32 (f : Int)), .int (i32 (p : Int)), .int (i32 (i : Int)), .int (i32 (D.vl p : Int))] [.int (rd τ 192 (ix (64 * i32 (f : Int) + i32 (i : Int))))] τ) none) := by
    rw [e369_0 (d + 1), bI_ok e350, show pv_c1 .eq (0 : Int32) = true from rfl, cond_true, e369_24, c_in (by omega) (by omega) (by omega), i32_ixn (by omega), e157]
  rw [head, c2_ne (by omega) (by omega) (by omega) (by omega)]
  unfold handN
  by_cases c : D.vl p = f
  · obtain ⟨_, _, _, f6, _⟩ := h.2.1 f hf
    have e64 : (64 : Int32) * i32 (f : Int) + i32 (i : Int) = i32 ((64 * f + i : Nat) : Int) := by rw [show (64 : Int32) = i32 64 from rfl, i32_mul, i32_add]; congr 1
    rw [c] at hi hil
    refine ⟨τ, ?_, h, frM.refl⟩
    rw [if_pos c, c_f (by omega), e64, c_in (by omega) (by omega) (by omega), i32_ixn (by omega), f6 i hi, e369_84]
  · obtain ⟨n1, x1, x2, x3⟩ := (h.2.2.2.2 f p hf h1 h2).2.1 hk (by omega)
    obtain ⟨x, y1, y2, y3⟩ := x3 i hi
    obtain ⟨τ', g1, g2, g3⟩ := find_M (L := L) (xs := xs) h.1 y2 d jv jv jv
    have hr := h.1.rlt y2
    have hN := h.1.2.2.1
    obtain ⟨⟨_, _, f3⟩, _⟩ := h.2.1 (D.vl p) (by omega)
    have e1 : ((i32 (n1 : Int) + i32 (D.bk (D.vl p) : Int)) + 1) + i32 (i : Int) = i32 ((n1 + D.bk (D.vl p) + 1 + i : Nat) : Int) := by rw [show (1 : Int32) = i32 1 from rfl, i32_add, i32_add, i32_add]; congr 1
    refine ⟨τ', ?_, h.to g2 (g3.sub rfl rfl), g3⟩
    rw [if_neg c, c_t (by omega), e369_52 (d + 1), c_in (by omega) (by omega) (by omega), c_in (by omega) (by omega) (by omega), i32_ixn (by omega), i32_ixn (by omega), x1, f3, e1, c_in (by omega) (by omega) (by omega), i32_ixn (by omega), y1, bI_ok g1, c_in (by omega) (by omega) (by omega), i32_ixn (by omega), g3.rd (j := 184) rfl, y3, e369_84]
end RSMFR
