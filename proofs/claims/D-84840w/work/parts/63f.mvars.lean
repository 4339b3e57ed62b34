/-! RUNS, MODEL: variables, closures -/
/-- the value of a variable -/
def LKv (X : dyD) (i n e : Nat) (val : vaL) : Prop := (∃ k : Nat, X.aV i e = (k : Int) ∧ k < n ∧ val = X.sv k) ∨ (∃ c o : Nat, X.aV i e = -2 - (c : Int) ∧ 0 ≤ X.fj i ∧ X.bs i < n ∧ X.sv (X.bs i) = (2, i32 (o : Int)) ∧ 1 ≤ o ∧ o ≤ X.no ∧ (X.hp o).co[c]? = some val)
/-- as it lies in the rows -/
def LKr (X : dyD) (i e : Nat) (val : vaL) (fil : Nat) (τ : tvS) : Prop := (∃ k : Nat, X.aV i e = (k : Int) ∧ k < 4000 ∧ rd τ 207 k = i32 (val.1 : Int) ∧ rd τ 208 k = val.2) ∨ (∃ c o a : Nat, X.aV i e = -2 - (c : Int) ∧ c ≤ 100 ∧ 0 ≤ X.fj i ∧ X.bs i < 4000 ∧ rd τ 208 (X.bs i) = i32 (o : Int) ∧ 1 ≤ o ∧ o ≤ 30001 ∧ rd τ 230 o = i32 (a : Int) ∧ a + c < fil ∧ rd τ 234 (a + c) = i32 (val.1 : Int) ∧ rd τ 235 (a + c) = val.2)
section MVARS
variable {L : Nat} {xs : Nat → Int32} {τ τ' τ0 τ1 : tvS} {D : pgD} {rg : rgD} {cd : cdD} {vd : Nat → Nat} {N m : Nat} {G : tG} {rr : Nat → Nat} {X X' : dyD} {K : List (Nat × Nat × Nat)} {n n' nr i st mt wd pgs ev fil f p r Nq e v : Nat} {s : cSt} {fn : Nat → Nat × Nat} {oa : Nat → Nat} {x : obD} {A : alD} {val : vaL}
theorem LKv.row (h : LKv X i n e val) (hS : MSt n X.sv τ) (hl : ∀ o, 1 ≤ o → o ≤ X.no → (X.hp o).co.length + (X.hp o).kp.length ≤ 100) (hno : X.no ≤ 30001) (hO : ∀ o, RCO X n o → MOi (X.hp o) o (oa o) τ ∧ oa o + (X.hp o).co.length + (X.hp o).kp.length ≤ fil) : LKr X i e val fil τ := by
  obtain ⟨s1, s2, s3⟩ := hS
  rcases h with ⟨k, h1, h2, h3⟩ | ⟨c, o, h1, h2, h3, h4, h5, h6, h7⟩
  · subst h3
    exact .inl ⟨k, h1, by omega, s3 k h2⟩
  · obtain ⟨g1, g2⟩ := s3 _ h3
    rw [h4] at g2
    have hc := (List.getElem?_eq_some_iff.mp h7).1
    have hle := hl o h5 h6
    obtain ⟨⟨q1, q2, q3⟩, q4⟩ := hO o ⟨X.bs i, h3, 0, h4, h5, h6⟩
    obtain ⟨m1, m2⟩ := q2 c val h7
    exact .inr ⟨c, o, oa o, h1, by omega, h2, by omega, g2, h5, by omega, q1, by omega, m1, m2⟩
theorem LKr.to (h : LKr X i e val fil τ) {fil' : Nat} (hf : fil ≤ fil') (h1 : ∀ j, j = 207 ∨ j = 208 ∨ j = 230 → ∀ k, (j = 230 → k ≤ 30001) → rd τ' j k = rd τ j k) (h2 : ∀ k, k < fil → rd τ' 234 k = rd τ 234 k ∧ rd τ' 235 k = rd τ 235 k) : LKr X i e val fil' τ' := by
  rcases h with ⟨k, a1, a2, a3, a4⟩ | ⟨c, o, a, a1, a2, a3, a4, a5, a6, a7, a8, a9, a10, a11⟩
  · exact .inl ⟨k, a1, a2, by rw [h1 207 (by omega) k (by omega)]; exact a3, by rw [h1 208 (by omega) k (by omega)]; exact a4⟩
  · obtain ⟨b1, b2⟩ := h2 (a + c) a9
    exact .inr ⟨c, o, a, a1, a2, a3, a4, by rw [h1 208 (by omega) _ (by omega)]; exact a5, a6, a7, by rw [h1 230 (by omega) _ (fun _ => a7)]; exact a8, by omega, by rw [b1]; exact a10, by rw [b2]; exact a11⟩
theorem look_any (hF : MFr X i τ) (h147 : rd τ 147 v = i32 (e : Int)) (hv : v < 3002) (he : e < 64) (hfil : fil ≤ 201000) (h : LKr X i e val fil τ) (v2 v3 : Value) (d : Nat) :
    ∃ τ', rn L xs (d + 1) 420 0 [.ref 123, .int (i32 (v : Int)), v2, v3] [] τ = some (.inl none, τ') ∧ rd τ' 123 167 = i32 (val.1 : Int) ∧ rd τ' 123 168 = val.2 ∧ frM [] [167, 168] τ τ' := by
  obtain ⟨f1, f2, f3, f4⟩ := hF
  obtain ⟨d1, d2, d3, d4⟩ := f4 i (Nat.le_refl _)
  have e2 : (64 : Int32) * i32 (i : Int) + i32 (e : Int) = i32 ((64 * i + e : Nat) : Int) := by rw [show (64 : Int32) = i32 64 from rfl, i32_mul, i32_add]; congr 1
  refine ⟨wr (wr τ 123 167 (i32 (val.1 : Int))) 123 168 val.2, ?_, by rw [wr_nei (by decide), wr_self], wr_self _ _ _ _, (frM_w rfl).trans (frM_w rfl)⟩
  rcases h with ⟨k, a1, a2, a3, a4⟩ | ⟨c, o, a, a1, a2, a3, a4, a5, a6, a7, a8, a9, a10, a11⟩
  · have r := d3 e he (by omega)
    rw [e420_0, c_in (by omega) (by omega) (by omega), i32_ixn (by omega), h147, f1, e2, c_in (by omega) (by omega) (by omega), i32_ixn (by omega), r, a1, c1_lt (by omega) (by omega), c_f (by omega), c_in (by omega) (by omega) (by omega), c_in (by omega) (by omega) (by omega), i32_ixn (by omega), a3, a4, e420_100]
  · have r := d3 e he (by omega)
    rw [if_pos a3] at d2
    have e3 : (i32 (a : Int) - 2) - i32 (-2 - (c : Int)) = i32 ((a + c : Nat) : Int) := by rw [show (2 : Int32) = i32 2 from rfl, i32_sub, i32_sub]; congr 1; omega
    rw [e420_0, c_in (by omega) (by omega) (by omega), i32_ixn (by omega), h147, f1, e2, c_in (by omega) (by omega) (by omega), i32_ixn (by omega), r, a1, c1_lt (by omega) (by omega), c_t (by omega), e420_47, f1, c_in (by omega) (by omega) (by omega), i32_ixn (by omega), d2, c_in (by omega) (by omega) (by omega), i32_ixn (by omega), a5, c_in (by omega) (by omega) (by omega), i32_ixn (by omega), a8, e3, c_in (by omega) (by omega) (by omega), c_in (by omega) (by omega) (by omega), c_in (by omega) (by omega) (by omega), i32_ixn (by omega), a10, a11, e420_100]
/-- what is caught is filled in -/
theorem caught_loop {cf fil0 : Nat} {cs : List vaL} {cl : List Nat} (hF : MFr X i τ0) (hp : p < 6000) (hcl : cl.length ≤ 100) (hcf : cf + cl.length ≤ 30000) (h196 : rd τ0 196 p = i32 (cf : Int)) (h197 : rd τ0 197 p = i32 (cl.length : Int)) (h198 : ∀ j, j < cl.length → rd τ0 198 (cf + j) = i32 ((cl.getD j 0 : Nat) : Int)) (h147 : ∀ j, j < cl.length → cl.getD j 0 < 3002 ∧ rd τ0 147 (cl.getD j 0) = i32 (vd (cl.getD j 0) : Int) ∧ vd (cl.getD j 0) < 64) (hcs : cs.length = cl.length) (hv : ∀ j w, cs[j]? = some w → LKr X i (vd (cl.getD j 0)) w fil0 τ0) (hfil : fil0 ≤ 200000) (x3 : Int32) (d : Nat) :
    ∀ (j t : Nat) (τ : tvS) (v2 : Value), t + j = cl.length → frM [234, 235] [164, 167, 168] τ0 τ → rd τ 123 164 = i32 ((fil0 + t : Nat) : Int) → (∀ k, k < fil0 → rd τ 234 k = rd τ0 234 k ∧ rd τ 235 k = rd τ0 235 k) → (∀ q w, q < t → cs[q]? = some w → rd τ 234 (fil0 + q) = i32 (w.1 : Int) ∧ rd τ 235 (fil0 + q) = w.2) →
      ∃ τ' v2', rn L xs (d + 2) 421 37 [.ref 123, .int (i32 (p : Int)), v2, .int x3, .int (i32 (t : Int))] [] τ = rn L xs (d + 2) 421 84 [.ref 123, .int (i32 (p : Int)), v2', .int x3, .int (i32 (cl.length : Int))] [] τ' ∧ frM [234, 235] [164, 167, 168] τ0 τ' ∧ rd τ' 123 164 = i32 ((fil0 + cl.length : Nat) : Int) ∧ (∀ k, k < fil0 → rd τ' 234 k = rd τ0 234 k ∧ rd τ' 235 k = rd τ0 235 k) ∧ ∀ q w, cs[q]? = some w → rd τ' 234 (fil0 + q) = i32 (w.1 : Int) ∧ rd τ' 235 (fil0 + q) = w.2 := by
  intro j
  induction j with
  | zero =>
    intro t τ v2 ht w h1 h2 h3
    have e : t = cl.length := by omega
    subst e
    refine ⟨τ, v2, ?_, w, h1, h2, fun q y hq => h3 q y (by rw [← hcs]; exact (List.getElem?_eq_some_iff.mp hq).1) hq⟩
    rw [e421_37, c_in (by omega) (by omega) (by omega), i32_ixn (by omega), w.rd (j := 197) rfl, h197, c2_ge (by omega) (by omega) (by omega) (by omega), c_t (by omega)]
  | succ j ih =>
    intro t τ v2 ht w h1 h2 h3
    have hlt : t < cs.length := by omega
    obtain ⟨y, hy⟩ : ∃ y, cs[t]? = some y := ⟨_, List.getElem?_eq_getElem hlt⟩
    obtain ⟨g1, g2, g3⟩ := h147 t (by omega)
    have e1 : i32 (cf : Int) + i32 (t : Int) = i32 ((cf + t : Nat) : Int) := by rw [i32_add]; congr 1
    have hF1 : MFr X i τ := hF.fr w rfl rfl rfl rfl rfl rfl
    obtain ⟨τ1, a1, a2, a3, a4⟩ := look_any (L := L) (xs := xs) hF1 (by rw [w.rd (j := 147) rfl]; exact g2) g1 g3 (by omega) ((hv t y hy).to (Nat.le_refl _) (fun j hj k _ => by rcases hj with e | e | e <;> rw [e] <;> exact w.rd rfl k) h2) jv jv d
    obtain ⟨τ2, b1, b2, b3, b4, b5, b6⟩ := fill_m (L := L) (xs := xs) (τ := τ1) (fil := fil0 + t) (by rw [a4.2 164 rfl]; exact h1) (by omega) (i32 (y.1 : Int)) y.2 d
    obtain ⟨τ', v2', c1, c2, c3, c4, c5⟩ := ih (t + 1) τ2 (dj (dj v2)) (by omega) (w.trans ((a4.sub rfl rfl).trans (b6.sub rfl rfl))) (by rw [b2]; rfl) (fun k hk => by rw [(b5 k (by omega)).1, (b5 k (by omega)).2, a4.rd (j := 234) rfl, a4.rd (j := 235) rfl]; exact h2 k hk) (fun q z hq hz => by
      by_cases e : q = t
      · subst e
        have ez : y = z := by rw [hy] at hz; injection hz
        rw [← ez]; exact ⟨b3, b4⟩
      · rw [(b5 (fil0 + q) (by omega)).1, (b5 (fil0 + q) (by omega)).2, a4.rd (j := 234) rfl, a4.rd (j := 235) rfl]; exact h3 q z (by omega) hz)
    refine ⟨τ', v2', ?_, c2, c3, c4, c5⟩
    rw [e421_37 (d + 1), c_in (by omega) (by omega) (by omega), i32_ixn (by omega), w.rd (j := 197) rfl, h197, c2_ge (by omega) (by omega) (by omega) (by omega), c_f (by omega), c_in (by omega) (by omega) (by omega), w.rd (j := 196) rfl, h196, e1, c_in (by omega) (by omega) (by omega), i32_ixn (by omega), w.rd (j := 198) rfl, h198 t (by omega), bV_ok a1, a2, a3, bV_ok b1, i32_up]
    exact c1
/-- what is kept is filled in -/
theorem kept_loop {kf fil0 : Nat} {kl : List Nat} (hF : MFr X i τ0) (hp : p < 6000) (hkl : kl.length ≤ 60) (hkf : kf + kl.length ≤ 40000) (h199 : rd τ0 199 p = i32 (kf : Int)) (h200 : rd τ0 200 p = i32 (kl.length : Int)) (h201 : ∀ j, j < kl.length → rd τ0 201 (kf + j) = i32 ((kl.getD j 0 : Nat) : Int)) (hk : ∀ j, j < kl.length → kl.getD j 0 < 64 ∧ X.aR i (kl.getD j 0) < 2000) (hfil : fil0 ≤ 200200) (x3 : Int32) (d : Nat) :
    ∀ (j t : Nat) (τ : tvS) (v2 : Value), t + j = kl.length → frM [234, 235] [164] τ0 τ → rd τ 123 164 = i32 ((fil0 + t : Nat) : Int) → (∀ k, k < fil0 → rd τ 234 k = rd τ0 234 k ∧ rd τ 235 k = rd τ0 235 k) → (∀ q, q < t → rd τ 235 (fil0 + q) = i32 (X.aR i (kl.getD q 0) : Int)) →
      ∃ τ' v2', rn L xs (d + 2) 421 99 [.ref 123, .int (i32 (p : Int)), v2, .int x3, .int (i32 (t : Int))] [] τ = rn L xs (d + 2) 421 148 [.ref 123, .int (i32 (p : Int)), v2', .int x3, .int (i32 (kl.length : Int))] [] τ' ∧ frM [234, 235] [164] τ0 τ' ∧ rd τ' 123 164 = i32 ((fil0 + kl.length : Nat) : Int) ∧ (∀ k, k < fil0 → rd τ' 234 k = rd τ0 234 k ∧ rd τ' 235 k = rd τ0 235 k) ∧ ∀ q, q < kl.length → rd τ' 235 (fil0 + q) = i32 (X.aR i (kl.getD q 0) : Int) := by
  obtain ⟨f1, f2, f3, f4⟩ := hF
  obtain ⟨_, _, _, d4⟩ := f4 i (Nat.le_refl _)
  intro j
  induction j with
  | zero =>
    intro t τ v2 ht w h1 h2 h3
    have e : t = kl.length := by omega
    subst e
    refine ⟨τ, v2, ?_, w, h1, h2, h3⟩
    rw [e421_99, c_in (by omega) (by omega) (by omega), i32_ixn (by omega), w.rd (j := 200) rfl, h200, c2_ge (by omega) (by omega) (by omega) (by omega), c_t (by omega)]
  | succ j ih =>
    intro t τ v2 ht w h1 h2 h3
    obtain ⟨g1, g2⟩ := hk t (by omega)
    have e1 : i32 (kf : Int) + i32 (t : Int) = i32 ((kf + t : Nat) : Int) := by rw [i32_add]; congr 1
    have e64 : (64 : Int32) * i32 (i : Int) + i32 (kl.getD t 0 : Int) = i32 ((64 * i + kl.getD t 0 : Nat) : Int) := by rw [show (64 : Int32) = i32 64 from rfl, i32_mul, i32_add]; congr 1
    obtain ⟨τ2, b1, b2, b3, b4, b5, b6⟩ := fill_m (L := L) (xs := xs) (τ := τ) (fil := fil0 + t) h1 (by omega) 3 (i32 (X.aR i (kl.getD t 0) : Int)) d
    obtain ⟨τ', v2', c1, c2, c3, c4, c5⟩ := ih (t + 1) τ2 (dj v2) (by omega) (w.trans b6) (by rw [b2]; rfl) (fun k hk => by rw [(b5 k (by omega)).1, (b5 k (by omega)).2]; exact h2 k hk) (fun q hq => by
      by_cases e : q = t
      · subst e; exact b4
      · rw [(b5 (fil0 + q) (by omega)).2]; exact h3 q (by omega))
    refine ⟨τ', v2', ?_, c2, c3, c4, c5⟩
    rw [e421_99 (d + 1), c_in (by omega) (by omega) (by omega), i32_ixn (by omega), w.rd (j := 200) rfl, h200, c2_ge (by omega) (by omega) (by omega) (by omega), c_f (by omega), c_in (by omega) (by omega) (by omega), w.rd (j := 199) rfl, h199, e1, c_in (by omega) (by omega) (by omega), i32_ixn (by omega), w.rd (j := 201) rfl, h201 t (by omega), w.2 139 rfl, f1, e64, c_in (by omega) (by omega) (by omega), i32_ixn (by omega), w.rd (j := 213) rfl, d4 _ g1 g2, bV_ok b1, i32_up]
    exact c1
/-- a variable's value comes on the stack -/
theorem var_m (hRS : RSm D rg cd vd N G rr τ) (hF : MFr X i τ) (hM : MSk fn s X n nr st oa fil mt pgs wd ev τ) (hno : X.no ≤ 30000) (hv : v < D.tV (D.fc + 1)) (hv2 : v < 3002) (h : LKv X i n (vd v) val) (d : Nat) :
    (n < 4000 ∧ ∃ τ', rn L xs (d + 3) 419 0 [.ref 123, .int (i32 (v : Int)), jv] [] τ = some (.inl none, τ') ∧ MSt (n + 1) (uq X.sv n val) τ' ∧ frM [207, 208] [132, 167, 168] τ τ') ∨
    (n = 4000 ∧ ∃ τ1 τ', rn L xs (d + 3) 419 0 [.ref 123, .int (i32 (v : Int)), jv] [] τ = some (.inl none, τ') ∧ frM [] [167, 168] τ τ1 ∧ MEn 4 τ1 τ') := by
  obtain ⟨h1, h2, h3, h4, h5, h6, h7, h8, h9⟩ := hM
  obtain ⟨g1, g2⟩ := hRS.2.2.2.1 v hv
  obtain ⟨τ1, a1, a2, a3, a4⟩ := look_any (L := L) (xs := xs) (val := val) hF g1 hv2 g2 (by have := h2.2.2.1; omega) (h.row h1 (fun o o1 o2 => (h2.2.2.2.1 o o1 o2).2.1) (by omega) h2.2.2.2.2.1) jv jv (d + 1)
  have hS1 : MSt n X.sv τ1 := h1.fr a4 rfl rfl rfl
  by_cases c : n = 4000
  · obtain ⟨τ', b1, b2⟩ := value_full (L := L) (xs := xs) hS1 c (i32 (val.1 : Int)) val.2 d
    refine .inr ⟨c, τ1, τ', ?_, a4, b2⟩
    rw [e419_0 (d + 2), bV_ok a1, a2, a3, bI_ok b1]
  · have hn := h1.2.1
    obtain ⟨τ', b1, b2, b3⟩ := value_m (L := L) (xs := xs) hS1 (by omega) val (d + 1)
    refine .inl ⟨by omega, τ', ?_, b2, (a4.sub rfl rfl).trans (b3.sub rfl rfl)⟩
    rw [e419_0 (d + 2), bV_ok a1, a2, a3, bI_ok b1]
end MVARS
