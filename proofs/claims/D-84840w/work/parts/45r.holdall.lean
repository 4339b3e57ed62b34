/-! REGIONS, THE MODEL: what the arrow of one fn must hold, all of it -/
section HOLDALL
variable {L : Nat} {xs : Nat → Int32} {σ σ' τ0 τ2 σ0 : tvS} {D : pgD} {Gs : sgD} {m f : Nat}
def FAm : List Nat := [169, 170, 171, 174, 175, 176, 183, 186]
/-- what stands while arrows come to hold more -/
def RDm (D : pgD) (Gs : sgD) (m f N : Nat) (r : Nat → Nat) (R : List Nat) (S0 S1 : Nat) (vs us sc : Nat → Nat) (cl : Nat → List Nat) (ow : Nat → Int) (σ0 τ0 τ2 : tvS) : Prop :=
  PGF D m ∧ f ≤ D.fc ∧ PGR D σ0 τ0 ∧ TYm D f N τ0 ∧ CLm D Gs f N τ0 ∧ SCm D f S0 S1 vs us sc cl τ0 ∧ frX FAm [72, 73, 84, 94] [187, 188, 189] τ0 τ2 ∧ (R.length ≤ 60 ∧ (∀ i x : Nat, R[i]? = some x → rd τ0 184 x = i32 ((i + 1 : Nat) : Int) ∧ rd τ0 185 i = i32 (x : Int) ∧ x < N ∧ r x = x) ∧ rd τ0 123 87 = i32 (R.length : Int) ∧ rd τ2 123 94 = i32 ((S0 + 1 : Nat) : Int)) ∧
  (∀ q i, D.bP f ≤ q → q < D.bP (f + 1) → i < D.np Gs f q → r (pnM D τ0 q i) ∈ R) ∧ (∀ k, k < R.length → rd τ2 186 k = i32 (ow k) ∧ -2 ≤ ow k ∧ ow k < 4101)
/-- a number that goes beyond e -/
def kpt (D : pgD) (ow : Nat → Int) (k e : Nat) : Prop := ow k = -1 ∨ ow k < (D.st e : Int) ∨ (e : Int) < ow k
/-- a fn's part and body -/
def FNe (D : pgD) (f P e : Nat) : Prop := D.bP f ≤ P ∧ P < D.bP (f + 1) ∧ D.K P = 17 ∧ (D.kd P)[0]? = some e
theorem HPM.fnd {N : Nat} {G : tG} {r : Nat → Nat} {H1 S Sh : Nat} {ar : Nat → Nat} {A : Nat → Nat → Prop} {NL : List (Nat × Nat)} {hl : Nat → List Nat} {hv : Nat → Nat} (h : HPM N G r H1 S Sh ar A NL hl hv τ2 σ) (hT : TM N G r σ') (w : frM [169] [] σ σ') : HPM N G r H1 S Sh ar A NL hl hv τ2 σ' :=
  ⟨⟨hT, h.1.2.1.fr w rfl ⟨rfl, rfl, rfl⟩, h.1.2.2.fr w rfl ⟨rfl, rfl⟩⟩, h.2.1.fr w rfl rfl, h.2.2.1, h.2.2.2.1, h.2.2.2.2.1, h.2.2.2.2.2.trans (w.sub rfl rfl)⟩
theorem MKj.fnd {N : Nat} {r : Nat → Nat} {Sh a : Nat} {hl : Nat → List Nat} {hv : Nat → Nat} (h : MKj N r Sh a hl hv σ) (w : frM [169] [] σ σ') : MKj N r Sh a hl hv σ' := fun y hy => by rw [w.rd (j := 183) rfl]; exact h y hy
theorem HRM.fnd {N : Nat} {G : tG} {r : Nat → Nat} {H1 S Sh : Nat} {ar : Nat → Nat} {A : Nat → Nat → Prop} {j : Nat} {NL NL' : List (Nat × Nat)} {hl hl' : Nat → List Nat} {hv hv' : Nat → Nat} {Q : Nat → Nat → Prop} {y y' : Int32} (g : HRM N G r H1 S Sh ar A j NL hl hv Q τ2 y y' NL' hl' hv' σ) (hT : TM N G r σ') (w : frM [169] [] σ σ') : HRM N G r H1 S Sh ar A j NL hl hv Q τ2 y y' NL' hl' hv' σ' := ⟨g.1.fnd hT w, g.2.1.fnd w, g.2.2⟩
section HA
variable {N : Nat} {G : tG} {r : Nat → Nat} {H1 S Sh M : Nat} {ar : Nat → Nat} {A : Nat → Nat → Prop} {Q : Nat → Nat → Prop} {R : List Nat} {S0 S1 : Nat} {vs us sc : Nat → Nat} {cl : Nat → List Nat} {ow : Nat → Int} {j P e : Nat}
/-- what is known of the arrow at hand and of those that it may come to hold -/
def HQm (D : pgD) (Gs : sgD) (f N : Nat) (G : tG) (r : Nat → Nat) (R : List Nat) (ow : Nat → Int) (H1 Sh M : Nat) (ar : Nat → Nat) (A : Nat → Nat → Prop) (Q : Nat → Nat → Prop) (j P e : Nat) (τ0 : tvS) : Prop :=
  ((∀ l : List (Nat × Nat), l.Nodup → (∀ e, e ∈ l → A e.1 e.2) → l.length ≤ M) ∧ H1 + M < 250000 ∧ (∀ x, r (r x) = r x) ∧ Sh < 2147483648 ∧ ar j = oM τ0 P ∧ G.1 (r (ar j)) = 4) ∧
  (∀ q, spn D e q → D.K q = 2 → D.vl q ∈ D.sl P → G.1 (r (vM τ0 (D.vl q))) ≠ 1 → A j (r (vM τ0 (D.vl q))) ∧ Q (r (ar j)) (r (vM τ0 (D.vl q)))) ∧
  (∀ q i k : Nat, spn D e q → i < D.np Gs f q → R[k]? = some (r (pnM D τ0 q i)) → kpt D ow k e → G.1 (r (pnM D τ0 q i)) ≠ 1 → A j (r (pnM D τ0 q i)) ∧ Q (r (ar j)) (r (pnM D τ0 q i))) ∧
  (∀ q k x : Nat, spn D e q → D.K q = 3 → D.vl q = f → R[k]? = some x → ow k = -1 → G.1 (r x) ≠ 1 → A j (r x) ∧ Q (r (ar j)) (r x))
theorem FNe.at (hF : PGF D m) (hf : f ≤ D.fc) (h : FNe D f P e) : D.bP f ≤ D.st e ∧ D.st e ≤ e ∧ e < P ∧ D.bP f ≤ e := by
  obtain ⟨a1, a2, a3, a4⟩ := h
  have hPf := hF.2.2 f hf
  have hPp := hPf.2.2.1 _ a1 a2
  have k := contN.at _ _ _ _ _ hPp.2.1 a4
  have hlo := hPp.1.2.2.1
  have hPb := hPf.2.2.1 e (by omega) (by omega)
  exact ⟨hPb.1.2.2.1, hPb.1.2.2.2, k.2.2.1, by omega⟩
theorem mKd3 : ∀ x, x < 21 → ((mKd x = 3 ↔ x = 2) ∧ (mKd x = 4 ↔ x = 3) ∧ (mKd x = 10 ↔ x = 17) ∧ mKd x < 14) := by decide
theorem in_tt {z : Int} {n : Nat} (h1 : 0 ≤ z) (h2 : z < n) (h3 : n ≤ 2147483648) : pv_in (i32 z) n = true := by
  have h := c_in (α := Bool) (a := true) (b := false) h1 h2 h3
  cases k : pv_in (i32 z) n with
  | true => rfl
  | false => rw [k] at h; cases h
theorem PFf.inV {D : pgD} {m f p v : Nat} (hF : PFf D m f) (hv : v ∈ D.sl p) (h1 : D.bP f ≤ p) (h2 : p < D.bP (f + 1)) : D.tV f ≤ v ∧ v < D.tV (f + 1) := by
  have a := hF.1.2.1
  rcases scp_typed hF (D.bP (f + 1)) p (by omega) h1 h2 v hv with k | ⟨h, k1, k2, k3⟩ | ⟨r, c, k1, k2, _, _, _, k6⟩
  · omega
  · obtain ⟨p', a1, a2, a3, a4⟩ := hF.2.2.2.2.1 h k1 k2
    have b := (hF.2.2.1 p' a1 a2).2.2.2.2.2.2.2 v (by unfold pgD.bd; rw [if_pos a3, a4, k3]; exact List.mem_singleton.mpr rfl)
    omega
  · have b := (hF.2.2.1 r k1 k2).2.2.2.2.2.2.2 v k6
    omega
/-- a captured variable -/
theorem cap_step {q : Nat} {NL : List (Nat × Nat)} {hl : Nat → List Nat} {hv : Nat → Nat} {y : Int32} (hD : RDm D Gs m f N r R S0 S1 vs us sc cl ow σ0 τ0 τ2) (hQ : HQm D Gs f N G r R ow H1 Sh M ar A Q j P e τ0) (hfn : FNe D f P e) (hP : HPM N G r H1 S Sh ar A NL hl hv τ2 σ) (hmk : MKj N r Sh (ar j) hl hv σ) (hLQ : hLe r (hC hl hv) Q) (hy : y = 0 ∨ y = 1) (hq : spn D e q) (d : Nat) :
    ∃ (σ' : tvS) (y' : Int32) (NL' : List (Nat × Nat)) (hl' : Nat → List Nat) (hv' : Nat → Nat), rn L xs (d + 4) 358 32 [.ref 123, .int (i32 (f : Int)), .int (i32 (P : Int)), .int (i32 (e : Int)), .int y, .int (i32 (q : Int))] [] σ = rn L xs (d + 4) 358 96 [.ref 123, .int (i32 (f : Int)), .int (i32 (P : Int)), .int (i32 (e : Int)), .int y', .int (i32 (q : Int))] [] σ' ∧ HRM N G r H1 S Sh ar A j NL hl hv Q τ2 y y' NL' hl' hv' σ' ∧ (D.K q = 2 → D.vl q ∈ D.sl P → Hd G r (hC hl' hv') (ar j) (vM τ0 (D.vl q))) := by
  obtain ⟨hF, hf, hR, hty, hcl, hsc, hfm, ⟨r1, r2, r3, r4⟩, hin, how⟩ := hD
  obtain ⟨⟨q1, q2, q3, q4, q5, q6⟩, q7, q8, q9⟩ := hQ
  obtain ⟨e1, e2, e3, e4⟩ := hfn.at hF hf
  have hb4 := hF.1
  have hbl := (hF.le (D.fc + 1 - (f + 1)) (f + 1) (by omega))
  have hPf := hF.2.2 f hf
  have hPl := hfn.2.1
  have hqlo : D.bP f ≤ q := by have := hq.1; omega
  have hqe := hq.2
  have hqhi : q < D.bP (f + 1) := by omega
  have hRq := hR.2 q (by omega)
  have hPq := hPf.2.2.1 q hqlo hqhi
  have hkq := mKd3 (D.K q) (by have := hPq.1.1; omega)
  have hfr : frX FAm [72, 73, 84, 94] [187, 188, 189] τ0 σ := hfm.trans ((hP.2.2.2.2.2.X [187, 188, 189]).sub rfl rfl rfl)
  have e151 : rd σ 151 q = i32 (mKd (D.K q) : Int) := (hfr.rd (j := 151) rfl q).trans hRq.1.2.1
  have start : rn L xs (d + 4) 358 32 [.ref 123, .int (i32 (f : Int)), .int (i32 (P : Int)), .int (i32 (e : Int)), .int y, .int (i32 (q : Int))] [] σ = cond (decide (¬ (mKd (D.K q) : Int) = 3)) (rn L xs (d + 4) 358 96 [.ref 123, .int (i32 (f : Int)), .int (i32 (P : Int)), .int (i32 (e : Int)), .int y, .int (i32 (q : Int))] [] σ) (bI (rn L xs (d + 3) 359 0 [.ref 123, .int (rd σ 157 q), .int (rd σ 160 P), jv] [] σ) (fun a2 s1 => cond (pv_c1 .eq a2) (rn L xs (d + 4) 358 96 [.ref 123, .int (i32 (f : Int)), .int (i32 (P : Int)), .int (i32 (e : Int)), .int y, .int (i32 (q : Int))] [] s1) (cond (pv_in (rd s1 157 q) 3002) (bI (rn L xs (d + 3) 360 0 [.ref 123, .int (rd s1 178 P), .int (rd s1 179 (ix (rd s1 157 q))), jv, jv] [] s1) (fun a4 s3 => rn L xs (d + 4) 358 96 [.ref 123, .int (i32 (f : Int)), .int (i32 (P : Int)), .int (i32 (e : Int)), .int (y ||| a4), .int (i32 (q : Int))] [] s3) X0) none)) X0) := by
    rw [e358_32 (d + 3), c2_gt (by omega) (by omega) (by omega) (by omega), c_f (by omega), c_in (by omega) (by omega) (by omega), i32_ixn (by omega), e151, show (3 : Int32) = i32 3 from rfl, c2_ne (by omega) (by omega) (by omega) (by omega), c_in (by omega) (by omega) (by omega), c_in (by omega) (by omega) (by omega), i32_ixn (show P < 2147483648 by omega)]
    simp only [in_tt (show 0 ≤ (P : Int) by omega) (show (P : Int) < (6000 : Nat) by omega) (show (6000 : Nat) ≤ 2147483648 by omega), in_tt (show 0 ≤ (q : Int) by omega) (show (q : Int) < (6000 : Nat) by omega) (show (6000 : Nat) ≤ 2147483648 by omega), cond_true, i32_ixn (show P < 2147483648 by omega), i32_ixn (show q < 2147483648 by omega)]
  by_cases k2 : D.K q = 2
  · have hv2 := hRq.2.2.2.2.1 (.inl k2)
    have e157 : ∀ s : tvS, frX FAm [72, 73, 84, 94] [187, 188, 189] τ0 s → rd s 157 q = i32 (D.vl q : Int) := fun s hs => (hs.rd (j := 157) rfl q).trans hv2.2
    obtain ⟨s1, s2, s3⟩ := hsc.2.2.2 P hfn.1 hfn.2.1
    have e160 : rd σ 160 P = i32 (sc P : Int) := (hfr.rd (j := 160) rfl P).trans s1
    have hvr := PFf.inV hPf (hPq.2.2.2.2.1 k2) hqlo hqhi
    have hvl : D.vl q < 3000 := by omega
    obtain ⟨z, z1, z2⟩ := around_m (L := L) (xs := xs) (σ := σ) (v := D.vl q) hsc (fun i => hfr.rd (j := 149) rfl i) (fun i => hfr.rd (j := 150) rfl i) (by rw [hP.2.2.2.2.2.2 94 rfl]; exact r4) (by omega) (by omega) (d + 2) (sc P) (sc P) (.int (i32 (sc P : Int))) (Nat.le_refl _) s2
    rw [s3] at z2
    rw [start, decide_eq_false (by rw [hkq.1.mpr k2]; simp), cond_false, e160, e157 σ hfr, e359_0, bI_ok z1]
    rcases z2 with ⟨w1, w2⟩ | ⟨w1, w2⟩
    · have hvN := hty.2.1 (D.vl q) hvr.1 hvr.2
      obtain ⟨s', z', NL', hl', hv', b1, b2, b3⟩ := HPM.hold (L := L) (xs := xs) (u := vM τ0 (D.vl q)) q1 q2 q3 q4 hP hmk hLQ hy (by rw [q5]; exact (hty.1 P hfn.1 hfn.2.1).2) q6 hvN.2 (fun k => (q7 q hq k2 w2 k).1) (fun k => (q7 q hq k2 w2 k).2) (d + 1) jv jv
      refine ⟨s', _, NL', hl', hv', ?_, b2, fun _ _ => b3⟩
      rw [w1, show pv_c1 .eq (1 : Int32) = false from rfl, cond_false, e157 σ hfr, c_in (by omega) (by omega) (by omega), i32_ixn (by omega), hfr.rd (j := 178) rfl, hfr.rd (j := 179) rfl, (hty.1 P hfn.1 hfn.2.1).1, hvN.1, ← q5, bI_ok b1]
    · refine ⟨σ, y, NL, hl, hv, ?_, HRM.refl hP hmk hLQ hy, fun _ k => absurd k w2⟩
      rw [w1, show pv_c1 .eq (0 : Int32) = true from rfl, cond_true]
  · refine ⟨σ, y, NL, hl, hv, ?_, HRM.refl hP hmk hLQ hy, fun k => absurd k k2⟩
    rw [start, decide_eq_true (show ¬ (mKd (D.K q) : Int) = 3 from fun k => k2 (hkq.1.mp (by omega))), cond_true]
/-- a put's number, and whether it goes beyond -/
theorem kept_q {q t k : Nat} {s : tvS} (hD : RDm D Gs m f N r R S0 S1 vs us sc cl ow σ0 τ0 τ2) (hfn : FNe D f P e) (hfr : frX FAm [72, 73, 84, 94] [187, 188, 189] τ0 s) (h186 : ∀ i, rd s 186 i = rd τ2 186 i) (hk : R[k]? = some t) (d : Nat) (v3 : Value) : t < N ∧ t < 100000 → ∃ y : Int32, rn L xs (d + 1) 361 0 [.ref 123, .int (rd s 184 t), .int (i32 (e : Int)), v3] [] s = some (.inl (some (.int y)), s) ∧ ((y = 1 ∧ kpt D ow k e) ∨ (y = 0 ∧ ¬ kpt D ow k e)) := by
  intro ht
  obtain ⟨hF, hf, hR, hty, hcl, hsc, hfm, ⟨r1, r2, r3, r4⟩, hin, how⟩ := hD
  obtain ⟨e1, e2, e3, e4⟩ := hfn.at hF hf
  have hb4 := hF.1
  have hbl := (hF.le (D.fc + 1 - (f + 1)) (f + 1) (by omega))
  have hPl := hfn.2.1
  have hkl : k < R.length := (List.getElem?_eq_some_iff.mp hk).1
  obtain ⟨o1, o2, o3⟩ := how k hkl
  obtain ⟨y, y1, y2⟩ := kept_m (L := L) (xs := xs) (σ := s) (k := k) (e := e) (o := ow k) (st := D.st e) (by omega) (by omega) (by omega) (by rw [h186]; exact o1) ⟨o2, o3⟩ ((hfr.rd (j := 161) rfl e).trans (hR.2 e (by omega)).1.2.2.2.2.2.1) d v3
  refine ⟨y, ?_, y2⟩
  rw [hfr.rd (j := 184) rfl, (r2 k t hk).1]
  exact y1
/-- a part that puts its own type -/
theorem put_hold {q : Nat} {NL : List (Nat × Nat)} {hl : Nat → List Nat} {hv : Nat → Nat} {y : Int32} (hD : RDm D Gs m f N r R S0 S1 vs us sc cl ow σ0 τ0 τ2) (hQ : HQm D Gs f N G r R ow H1 Sh M ar A Q j P e τ0) (hfn : FNe D f P e) (hP : HPM N G r H1 S Sh ar A NL hl hv τ2 σ) (hmk : MKj N r Sh (ar j) hl hv σ) (hLQ : hLe r (hC hl hv) Q) (hy : y = 0 ∨ y = 1) (hq : spn D e q) (d : Nat) :
    ∃ (σ' : tvS) (y' : Int32) (NL' : List (Nat × Nat)) (hl' : Nat → List Nat) (hv' : Nat → Nat), rn L xs (d + 4) 358 96 [.ref 123, .int (i32 (f : Int)), .int (i32 (P : Int)), .int (i32 (e : Int)), .int y, .int (i32 (q : Int))] [] σ = rn L xs (d + 4) 358 151 [.ref 123, .int (i32 (f : Int)), .int (i32 (P : Int)), .int (i32 (e : Int)), .int y', .int (i32 (q : Int))] [] σ' ∧ HRM N G r H1 S Sh ar A j NL hl hv Q τ2 y y' NL' hl' hv' σ' ∧ ((D.K q = 4 ∨ D.K q = 16 ∨ D.K q = 17) → ∀ i k : Nat, i < D.np Gs f q → R[k]? = some (r (pnM D τ0 q i)) → kpt D ow k e → Hd G r (hC hl' hv') (ar j) (pnM D τ0 q i)) := by
  obtain ⟨hF, hf, hR, hty, hcl, hsc, hfm, ⟨r1, r2, r3, r4⟩, hin, how⟩ := id hD
  obtain ⟨⟨q1, q2, q3, q4, q5, q6⟩, q7, q8, q9⟩ := hQ
  obtain ⟨e1, e2, e3, e4⟩ := hfn.at hF hf
  have hb4 := hF.1
  have hbl := (hF.le (D.fc + 1 - (f + 1)) (f + 1) (by omega))
  have hPf := hF.2.2 f hf
  have hPl := hfn.2.1
  have hqlo : D.bP f ≤ q := by have := hq.1; omega
  have hqe := hq.2
  have hqhi : q < D.bP (f + 1) := by omega
  have hRq := hR.2 q (by omega)
  have hfr : frX FAm [72, 73, 84, 94] [187, 188, 189] τ0 σ := hfm.trans ((hP.2.2.2.2.2.X [187, 188, 189]).sub rfl rfl rfl)
  obtain ⟨z, z1, z2⟩ := isPut_m (L := L) (xs := xs) (σ := σ) hF hf hR (hfr.rd (j := 151) rfl q) hqlo hqhi (d + 2)
  rcases z2 with ⟨w1, w2⟩ | ⟨w1, w2⟩
  · have hnp : D.np Gs f q = 1 := by unfold pgD.np; rw [if_pos w2]
    have hpn : ∀ i, pnM D τ0 q i = oM τ0 q := fun i => by unfold pnM; rw [if_pos w2]
    obtain ⟨t1, t2⟩ := hty.1 q hqlo hqhi
    obtain ⟨s1, a1, a2, a3⟩ := find_M (L := L) (xs := xs) hP.1.1 t2 (d + 2) jv jv jv
    have hP1 := hP.fnd a2 a3
    have hmk1 := hmk.fnd a3
    have hrt := hP.1.1.rlt t2
    have hN := hP.1.1.2.2.1
    have hfr1 : frX FAm [72, 73, 84, 94] [187, 188, 189] τ0 s1 := hfm.trans ((hP1.2.2.2.2.2.X [187, 188, 189]).sub rfl rfl rfl)
    have hmR := hin q 0 hqlo hqhi (by omega)
    rw [hpn] at hmR
    obtain ⟨k, hk⟩ := List.getElem?_of_mem hmR
    obtain ⟨u, u1, u2⟩ := kept_q (L := L) (xs := xs) (s := s1) (q := q) hD hfn hfr1 (fun i => hP1.2.2.2.2.2.rd (j := 186) rfl i) hk (d + 2) jv ⟨hrt, by omega⟩
    have uk : ∀ k' : Nat, R[k']? = some (r (oM τ0 q)) → k' = k := fun k' hk' => by
      have b1 := (r2 k' _ hk').1
      rw [(r2 k _ hk).1] at b1
      have l1 : k < R.length := (List.getElem?_eq_some_iff.mp hk).1
      have l2 : k' < R.length := (List.getElem?_eq_some_iff.mp hk').1
      have := (i32_inj (by omega) (by omega) (by omega) (by omega)).mp b1
      omega
    have head : rn L xs (d + 4) 358 96 [.ref 123, .int (i32 (f : Int)), .int (i32 (P : Int)), .int (i32 (e : Int)), .int y, .int (i32 (q : Int))] [] σ = cond (pv_c1 .eq u) (rn L xs (d + 4) 358 151 [.ref 123, .int (i32 (f : Int)), .int (i32 (P : Int)), .int (i32 (e : Int)), .int y, .int (i32 (q : Int))] [] s1) (bI (rn L xs (d + 3) 360 0 [.ref 123, .int (i32 (oM τ0 P : Int)), .int (i32 (oM τ0 q : Int)), jv, jv] [] s1) (fun a8 s7 => rn L xs (d + 4) 358 151 [.ref 123, .int (i32 (f : Int)), .int (i32 (P : Int)), .int (i32 (e : Int)), .int (y ||| a8), .int (i32 (q : Int))] [] s7) X0) := by
      rw [e358_96 (d + 3), bI_ok z1, w1, show pv_c1 .eq (1 : Int32) = false from rfl, cond_false, c_in (by omega) (by omega) (by omega), i32_ixn (by omega), hfr.rd (j := 178) rfl, t1, bI_ok a1, c_in (by omega) (by omega) (by omega), i32_ixn (by omega), bI_ok u1, c_in (by omega) (by omega) (by omega), c_in (by omega) (by omega) (by omega), i32_ixn (by omega), hfr1.rd (j := 178) rfl, hfr1.rd (j := 178) rfl, t1, (hty.1 P hfn.1 hfn.2.1).1]
    rcases u2 with ⟨v1, v2⟩ | ⟨v1, v2⟩
    · have hnm : G.1 (r (oM τ0 q)) ≠ 1 → A j (r (oM τ0 q)) ∧ Q (r (ar j)) (r (oM τ0 q)) := fun c => by
        have := q8 q 0 k hq (by omega) (by rw [hpn]; exact hk) v2
        rw [hpn] at this
        exact this c
      obtain ⟨s', z', NL', hl', hv', b1, b2, b3⟩ := HPM.hold (L := L) (xs := xs) (u := oM τ0 q) q1 q2 q3 q4 hP1 hmk1 hLQ hy (by rw [q5]; exact (hty.1 P hfn.1 hfn.2.1).2) q6 t2 (fun k => (hnm k).1) (fun k => (hnm k).2) (d + 1) jv jv
      refine ⟨s', _, NL', hl', hv', ?_, b2, fun _ i k _ _ _ => by rw [hpn]; exact b3⟩
      rw [head, v1, show pv_c1 .eq (1 : Int32) = false from rfl, cond_false, ← q5, bI_ok b1]
    · refine ⟨s1, y, NL, hl, hv, ?_, HRM.refl hP1 hmk1 hLQ hy, fun _ i k' _ hk' kk => ?_⟩
      · rw [head, v1, show pv_c1 .eq (0 : Int32) = true from rfl, cond_true]
      · rw [hpn] at hk'
        rw [uk k' hk'] at kk
        exact absurd kk v2
  · refine ⟨σ, y, NL, hl, hv, ?_, HRM.refl hP hmk hLQ hy, fun k => absurd k w2⟩
    rw [e358_96 (d + 3), bI_ok z1, w1, show pv_c1 .eq (0 : Int32) = true from rfl, cond_true]
/-- where the function calls itself: all that goes beyond everything -/
theorem self_hold {q : Nat} (hD : RDm D Gs m f N r R S0 S1 vs us sc cl ow σ0 τ0 τ2) (hQ : HQm D Gs f N G r R ow H1 Sh M ar A Q j P e τ0) (hfn : FNe D f P e) (hq : spn D e q) (h3 : D.K q = 3) (hvf : D.vl q = f) (d : Nat) : ∀ (n k : Nat) (σ : tvS) (NL : List (Nat × Nat)) (hl : Nat → List Nat) (hv : Nat → Nat) (y : Int32) (v1 v3 v4 v6 v8 : Value), k + n = R.length → HPM N G r H1 S Sh ar A NL hl hv τ2 σ → MKj N r Sh (ar j) hl hv σ → hLe r (hC hl hv) Q → (y = 0 ∨ y = 1) →
    ∃ (σ' : tvS) (y' : Int32) (NL' : List (Nat × Nat)) (hl' : Nat → List Nat) (hv' : Nat → Nat), rn L xs (d + 3) 362 20 [.ref 123, v1, .int (i32 (P : Int)), v3, v4, .int y, v6, .int (i32 (k : Int)), v8] [] σ = some (.inl (some (.int y')), σ') ∧ HRM N G r H1 S Sh ar A j NL hl hv Q τ2 y y' NL' hl' hv' σ' ∧ ∀ k' x : Nat, k ≤ k' → R[k']? = some x → ow k' = -1 → Hd G r (hC hl' hv') (ar j) x := by
  obtain ⟨hF, hf, hR, hty, hcl, hsc, hfm, ⟨r1, r2, r3, r4⟩, hin, how⟩ := id hD
  obtain ⟨⟨q1, q2, q3, q4, q5, q6⟩, q7, q8, q9⟩ := hQ
  have hb4 := hF.1
  have hbl := (hF.le (D.fc + 1 - (f + 1)) (f + 1) (by omega))
  have hPl := hfn.2.1
  obtain ⟨P1, P2⟩ := hty.1 P hfn.1 hfn.2.1
  intro n
  induction n with
  | zero =>
    intro k σ NL hl hv y v1 v3 v4 v6 v8 hk hP hmk hLQ hy
    have hfr : frX FAm [72, 73, 84, 94] [187, 188, 189] τ0 σ := hfm.trans ((hP.2.2.2.2.2.X [187, 188, 189]).sub rfl rfl rfl)
    refine ⟨σ, y, NL, hl, hv, ?_, HRM.refl hP hmk hLQ hy, fun k' x h1 h2 => ?_⟩
    · have hb : b01 y = true := by rcases hy with q | q <;> rw [q] <;> rfl
      rw [e362_20 (d + 2), hfr.2.1 87 rfl, r3, c2_ge (by omega) (by omega) (by omega) (by omega), c_t (by omega), e362_68, hb, cond_true]
    · have := (List.getElem?_eq_some_iff.mp h2).1; omega
  | succ n ih =>
    intro k σ NL hl hv y v1 v3 v4 v6 v8 hk hP hmk hLQ hy
    have hfr : frX FAm [72, 73, 84, 94] [187, 188, 189] τ0 σ := hfm.trans ((hP.2.2.2.2.2.X [187, 188, 189]).sub rfl rfl rfl)
    obtain ⟨x, hx⟩ : ∃ x, R[k]? = some x := ⟨R[k]'(by omega), List.getElem?_eq_getElem (by omega)⟩
    obtain ⟨x1, x2, x3, x4⟩ := r2 k x hx
    obtain ⟨o1, o2, o3⟩ := how k (by omega)
    have hN := hP.1.1.2.2.1
    have e186 : rd σ 186 k = i32 (ow k) := (hP.2.2.2.2.2.rd (j := 186) rfl k).trans o1
    have head : rn L xs (d + 3) 362 20 [.ref 123, v1, .int (i32 (P : Int)), v3, v4, .int y, v6, .int (i32 (k : Int)), v8] [] σ = cond (decide (¬ ow k = -1)) (rn L xs (d + 3) 362 62 [.ref 123, v1, .int (i32 (P : Int)), v3, v4, .int y, v6, .int (i32 (k : Int)), v8] [] σ) (bI (rn L xs (d + 2) 360 0 [.ref 123, .int (i32 (ar j : Int)), .int (i32 (x : Int)), jv, jv] [] σ) (fun a2 s1 => rn L xs (d + 3) 362 62 [.ref 123, (dj v1), .int (i32 (P : Int)), (dj v3), (jk (dj v4)), .int (y ||| a2), (dj v6), .int (i32 (k : Int)), (dj v8)] [] s1) X0) := by
      rw [e362_20 (d + 2), hfr.2.1 87 rfl, r3, c2_ge (by omega) (by omega) (by omega) (by omega), c_f (by omega), c_in (by omega) (by omega) (by omega), i32_ixn (by omega), e186, i32_raw, c2_ne (by omega) (by omega) (by omega) (by omega), c_in (by omega) (by omega) (by omega), c_in (by omega) (by omega) (by omega), i32_ixn (by omega), hfr.rd (j := 178) rfl, hfr.rd (j := 185) rfl, P1, x2, q5]
    by_cases c : ow k = -1
    · have hnm := fun g => q9 q k x hq h3 hvf hx c g
      obtain ⟨s', z', NL1, hl1, hv1, b1, b2, b3⟩ := HPM.hold (L := L) (xs := xs) (u := x) q1 q2 q3 q4 hP hmk hLQ hy (by rw [q5]; exact P2) q6 x3 (fun k => (hnm k).1) (fun k => (hnm k).2) d jv jv
      obtain ⟨σ', y', NL', hl', hv', z1, z2, z3⟩ := ih (k + 1) s' NL1 hl1 hv1 (y ||| z') (dj v1) (dj v3) (jk (dj v4)) (jk (dj v6)) (dj v8) (by omega) b2.1 b2.2.1 b2.2.2.2.1 b2.2.2.2.2.2.1
      refine ⟨σ', y', NL', hl', hv', ?_, b2.trans z2, fun k' x' h1 h2 h3 => ?_⟩
      · rw [head, decide_eq_false (fun g => g c), cond_false, bI_ok b1, e362_62, i32_up]
        exact z1
      · by_cases g : k' = k
        · rw [g] at h2
          rw [← Option.some.inj (hx.symm.trans h2)]
          exact b3.ge q3 z2.2.2.1
        · exact z3 k' x' (by omega) h2 h3
    · obtain ⟨σ', y', NL', hl', hv', z1, z2, z3⟩ := ih (k + 1) σ NL hl hv y v1 v3 v4 (jk v6) v8 (by omega) hP hmk hLQ hy
      refine ⟨σ', y', NL', hl', hv', ?_, z2, fun k' x' h1 h2 h3 => ?_⟩
      · rw [head, decide_eq_true c, cond_true, e362_62, i32_up]
        exact z1
      · by_cases g : k' = k
        · rw [g] at h3; exact absurd h3 c
        · exact z3 k' x' (by omega) h2 h3
/-- where an older one is called: what is handed to it -/
theorem old_hold {q : Nat} (hD : RDm D Gs m f N r R S0 S1 vs us sc cl ow σ0 τ0 τ2) (hQ : HQm D Gs f N G r R ow H1 Sh M ar A Q j P e τ0) (hfn : FNe D f P e) (hq : spn D e q) (h3 : D.K q = 3) (hvf : D.vl q < f) (d : Nat) : ∀ (n k : Nat) (σ : tvS) (NL : List (Nat × Nat)) (hl : Nat → List Nat) (hv : Nat → Nat) (y : Int32) (v1 v8 : Value), k + n = Gs.ng (D.vl q) → HPM N G r H1 S Sh ar A NL hl hv τ2 σ → MKj N r Sh (ar j) hl hv σ → hLe r (hC hl hv) Q → (y = 0 ∨ y = 1) →
    ∃ (σ' : tvS) (y' : Int32) (NL' : List (Nat × Nat)) (hl' : Nat → List Nat) (hv' : Nat → Nat), rn L xs (d + 3) 362 74 [.ref 123, v1, .int (i32 (P : Int)), .int (i32 (q : Int)), .int (i32 (e : Int)), .int y, .int (i32 (D.vl q : Int)), .int (i32 (k : Int)), v8] [] σ = some (.inl (some (.int y')), σ') ∧ HRM N G r H1 S Sh ar A j NL hl hv Q τ2 y y' NL' hl' hv' σ' ∧ ∀ i k' : Nat, k ≤ i → i < Gs.ng (D.vl q) → R[k']? = some (r (pnM D τ0 q i)) → kpt D ow k' e → Hd G r (hC hl' hv') (ar j) (pnM D τ0 q i) := by
  obtain ⟨hF, hf, hR, hty, hcl, hsc, hfm, ⟨r1, r2, r3, r4⟩, hin, how⟩ := id hD
  obtain ⟨⟨q1, q2, q3, q4, q5, q6⟩, q7, q8, q9⟩ := hQ
  obtain ⟨e1, e2, e3, e4⟩ := hfn.at hF hf
  have hb4 := hF.1
  have hbl := (hF.le (D.fc + 1 - (f + 1)) (f + 1) (by omega))
  have hPl := hfn.2.1
  have hqlo : D.bP f ≤ q := by have := hq.1; omega
  have hqe := hq.2
  have hqhi : q < D.bP (f + 1) := by omega
  obtain ⟨P1, P2⟩ := hty.1 P hfn.1 hfn.2.1
  obtain ⟨n1, c1, c2, c3, c4, c5⟩ := hcl q hqlo hqhi h3 hvf
  have hcn : D.cn Gs q = D.bk (D.vl q) + 1 + Gs.ng (D.vl q) := rfl
  have hkk := (hF.2.2 (D.vl q) (by omega)).1.2.2.2
  have e140 := (hR.1 (D.vl q) (by omega)).2.1.1
  have hnp : D.np Gs f q = Gs.ng (D.vl q) := by unfold pgD.np; rw [if_neg (by omega), if_pos ⟨h3, hvf⟩]
  have hpn : ∀ i, pnM D τ0 q i = cM τ0 q (D.bk (D.vl q) + 1 + i) := fun i => by unfold pnM; rw [if_neg (by omega)]
  intro n
  induction n with
  | zero =>
    intro k σ NL hl hv y v1 v8 hk hP hmk hLQ hy
    have hfr : frX FAm [72, 73, 84, 94] [187, 188, 189] τ0 σ := hfm.trans ((hP.2.2.2.2.2.X [187, 188, 189]).sub rfl rfl rfl)
    refine ⟨σ, y, NL, hl, hv, ?_, HRM.refl hP hmk hLQ hy, fun i k' h1 h2 => by omega⟩
    have hb : b01 y = true := by rcases hy with q | q <;> rw [q] <;> rfl
    rw [e362_74 (d + 2), c_in (by omega) (by omega) (by omega), i32_ixn (by omega), hfr.rd (j := 191) rfl, c4, c2_ge (by omega) (by omega) (by omega) (by omega), c_t (by omega), e362_155, hb, cond_true]
  | succ n ih =>
    intro k σ NL hl hv y v1 v8 hk hP hmk hLQ hy
    have hfr : frX FAm [72, 73, 84, 94] [187, 188, 189] τ0 σ := hfm.trans ((hP.2.2.2.2.2.X [187, 188, 189]).sub rfl rfl rfl)
    obtain ⟨d1, d2⟩ := c3 (D.bk (D.vl q) + 1 + k) (by omega)
    have t2 : pnM D τ0 q k < N := by rw [hpn]; exact d2
    have ei : i32 (n1 : Int) + i32 (D.bk (D.vl q) : Int) + 1 + i32 (k : Int) = i32 ((n1 + (D.bk (D.vl q) + 1 + k) : Nat) : Int) := by
      rw [show (1 : Int32) = i32 1 from rfl, i32_add, i32_add, i32_add]; congr 1; omega
    obtain ⟨s1, a1, a2, a3⟩ := find_M (L := L) (xs := xs) hP.1.1 t2 (d + 1) jv jv jv
    have hP1 := hP.fnd a2 a3
    have hmk1 := hmk.fnd a3
    have hrt := hP.1.1.rlt t2
    have hN := hP.1.1.2.2.1
    have hfr1 : frX FAm [72, 73, 84, 94] [187, 188, 189] τ0 s1 := hfm.trans ((hP1.2.2.2.2.2.X [187, 188, 189]).sub rfl rfl rfl)
    have hmR := hin q k hqlo hqhi (by omega)
    obtain ⟨k0, hk0⟩ := List.getElem?_of_mem hmR
    obtain ⟨u, u1, u2⟩ := kept_q (L := L) (xs := xs) (s := s1) (q := q) hD hfn hfr1 (fun i => hP1.2.2.2.2.2.rd (j := 186) rfl i) hk0 (d + 1) jv ⟨hrt, by omega⟩
    have uk : ∀ k' : Nat, R[k']? = some (r (pnM D τ0 q k)) → k' = k0 := fun k' hk' => by
      have b1 := (r2 k' _ hk').1
      rw [(r2 k0 _ hk0).1] at b1
      have l1 : k0 < R.length := (List.getElem?_eq_some_iff.mp hk0).1
      have l2 : k' < R.length := (List.getElem?_eq_some_iff.mp hk').1
      have := (i32_inj (by omega) (by omega) (by omega) (by omega)).mp b1
      omega
    have hval : rd σ 182 (n1 + (D.bk (D.vl q) + 1 + k)) = i32 (pnM D τ0 q k : Int) := by rw [hfr.rd (j := 182) rfl, d1, hpn]
    have head : rn L xs (d + 3) 362 74 [.ref 123, v1, .int (i32 (P : Int)), .int (i32 (q : Int)), .int (i32 (e : Int)), .int y, .int (i32 (D.vl q : Int)), .int (i32 (k : Int)), v8] [] σ = cond (pv_c1 .eq u) (rn L xs (d + 3) 362 149 [.ref 123, (dj (dj v1)), .int (i32 (P : Int)), .int (i32 (q : Int)), .int (i32 (e : Int)), .int y, .int (i32 (D.vl q : Int)), .int (i32 (k : Int)), .int (i32 (pnM D τ0 q k : Int))] [] s1) (bI (rn L xs (d + 2) 360 0 [.ref 123, .int (i32 (ar j : Int)), .int (i32 (pnM D τ0 q k : Int)), jv, jv] [] s1) (fun a6 s5 => rn L xs (d + 3) 362 149 [.ref 123, (dj (dj (dj v1))), .int (i32 (P : Int)), .int (i32 (q : Int)), .int (i32 (e : Int)), .int (y ||| a6), .int (i32 (D.vl q : Int)), .int (i32 (k : Int)), .int (i32 (pnM D τ0 q k : Int))] [] s5) X0) := by
      rw [e362_74 (d + 2), c_in (by omega) (by omega) (by omega), i32_ixn (by omega), hfr.rd (j := 191) rfl, c4, c2_ge (by omega) (by omega) (by omega) (by omega), c_f (by omega), c_in (by omega) (by omega) (by omega), c_in (by omega) (by omega) (by omega), i32_ixn (by omega), hfr.rd (j := 181) rfl, hfr.rd (j := 140) rfl, c1, e140, ei, c_in (by omega) (by omega) (by omega), i32_ixn (by omega), hval, bI_ok a1, c_in (by omega) (by omega) (by omega), i32_ixn (by omega), bI_ok u1, c_in (by omega) (by omega) (by omega), i32_ixn (by omega), hfr1.rd (j := 178) rfl, P1, q5]
    rcases u2 with ⟨v1', v2⟩ | ⟨v1', v2⟩
    · have hnm := fun g => q8 q k k0 hq (by omega) hk0 v2 g
      obtain ⟨s', z', NL1, hl1, hv1, b1, b2, b3⟩ := HPM.hold (L := L) (xs := xs) (u := pnM D τ0 q k) q1 q2 q3 q4 hP1 hmk1 hLQ hy (by rw [q5]; exact P2) q6 t2 (fun k => (hnm k).1) (fun k => (hnm k).2) d jv jv
      obtain ⟨σ', y', NL', hl', hv', z1, z2, z3⟩ := ih (k + 1) s' NL1 hl1 hv1 (y ||| z') (dj (dj (dj v1))) (.int (i32 (pnM D τ0 q k : Int))) (by omega) b2.1 b2.2.1 b2.2.2.2.1 b2.2.2.2.2.2.1
      refine ⟨σ', y', NL', hl', hv', ?_, b2.trans z2, fun i k' h1 h2 h3 h4 => ?_⟩
      · rw [head, v1', show pv_c1 .eq (1 : Int32) = false from rfl, cond_false, bI_ok b1, e362_149, i32_up]
        exact z1
      · by_cases g : i = k
        · rw [g]
          exact b3.ge q3 z2.2.2.1
        · exact z3 i k' (by omega) h2 h3 h4
    · obtain ⟨σ', y', NL', hl', hv', z1, z2, z3⟩ := ih (k + 1) s1 NL hl hv y (dj (dj v1)) (.int (i32 (pnM D τ0 q k : Int))) (by omega) hP1 hmk1 hLQ hy
      refine ⟨σ', y', NL', hl', hv', ?_, z2, fun i k' h1 h2 h3 h4 => ?_⟩
      · rw [head, v1', show pv_c1 .eq (0 : Int32) = true from rfl, cond_true, e362_149, i32_up]
        exact z1
      · by_cases g : i = k
        · rw [g] at h3
          rw [uk k' h3] at h4; exact absurd h4 v2
        · exact z3 i k' (by omega) h2 h3 h4
/-- what the arrow at hand must hold because of a part of its body -/
def HFm (D : pgD) (Gs : sgD) (f : Nat) (G : tG) (r : Nat → Nat) (R : List Nat) (ow : Nat → Int) (τ0 : tvS) (h : Nat → Nat → Prop) (a P e q : Nat) : Prop :=
  (D.K q = 2 → D.vl q ∈ D.sl P → Hd G r h a (vM τ0 (D.vl q))) ∧ (∀ i k : Nat, i < D.np Gs f q → R[k]? = some (r (pnM D τ0 q i)) → kpt D ow k e → Hd G r h a (pnM D τ0 q i)) ∧ (D.K q = 3 → D.vl q = f → ∀ k x : Nat, R[k]? = some x → ow k = -1 → Hd G r h a x)
theorem HFm.ge {h h' : Nat → Nat → Prop} {a q : Nat} (g : HFm D Gs f G r R ow τ0 h a P e q) (hI : ∀ x, r (r x) = r x) (w : hGe r h h') : HFm D Gs f G r R ow τ0 h' a P e q := ⟨fun k1 k2 => (g.1 k1 k2).ge hI w, fun i k h1 h2 h3 => (g.2.1 i k h1 h2 h3).ge hI w, fun h1 h2 k x h3 h4 => (g.2.2 h1 h2 k x h3 h4).ge hI w⟩
/-- a part that is a call -/
theorem call_hold {q : Nat} {NL : List (Nat × Nat)} {hl : Nat → List Nat} {hv : Nat → Nat} {y : Int32} (hD : RDm D Gs m f N r R S0 S1 vs us sc cl ow σ0 τ0 τ2) (hQ : HQm D Gs f N G r R ow H1 Sh M ar A Q j P e τ0) (hfn : FNe D f P e) (hP : HPM N G r H1 S Sh ar A NL hl hv τ2 σ) (hmk : MKj N r Sh (ar j) hl hv σ) (hLQ : hLe r (hC hl hv) Q) (hy : y = 0 ∨ y = 1) (hq : spn D e q) (d : Nat) :
    ∃ (σ' : tvS) (y' : Int32) (NL' : List (Nat × Nat)) (hl' : Nat → List Nat) (hv' : Nat → Nat), rn L xs (d + 4) 358 151 [.ref 123, .int (i32 (f : Int)), .int (i32 (P : Int)), .int (i32 (e : Int)), .int y, .int (i32 (q : Int))] [] σ = rn L xs (d + 4) 358 176 [.ref 123, .int (i32 (f : Int)), .int (i32 (P : Int)), .int (i32 (e : Int)), .int y', .int (i32 (q : Int))] [] σ' ∧ HRM N G r H1 S Sh ar A j NL hl hv Q τ2 y y' NL' hl' hv' σ' ∧ (D.K q = 3 → (D.vl q < f → ∀ i k' : Nat, i < Gs.ng (D.vl q) → R[k']? = some (r (pnM D τ0 q i)) → kpt D ow k' e → Hd G r (hC hl' hv') (ar j) (pnM D τ0 q i)) ∧ (D.vl q = f → ∀ k x : Nat, R[k]? = some x → ow k = -1 → Hd G r (hC hl' hv') (ar j) x)) := by
  obtain ⟨hF, hf, hR, hty, hcl, hsc, hfm, ⟨r1, r2, r3, r4⟩, hin, how⟩ := id hD
  obtain ⟨e1, e2, e3, e4⟩ := hfn.at hF hf
  have hb4 := hF.1
  have hbl := (hF.le (D.fc + 1 - (f + 1)) (f + 1) (by omega))
  have hPf := hF.2.2 f hf
  have hPl := hfn.2.1
  have hqlo : D.bP f ≤ q := by have := hq.1; omega
  have hqe := hq.2
  have hqhi : q < D.bP (f + 1) := by omega
  have hRq := hR.2 q (by omega)
  have hPq := hPf.2.2.1 q hqlo hqhi
  have hkq := mKd3 (D.K q) (by have := hPq.1.1; omega)
  have hfr : frX FAm [72, 73, 84, 94] [187, 188, 189] τ0 σ := hfm.trans ((hP.2.2.2.2.2.X [187, 188, 189]).sub rfl rfl rfl)
  have e151 : rd σ 151 q = i32 (mKd (D.K q) : Int) := (hfr.rd (j := 151) rfl q).trans hRq.1.2.1
  have head : rn L xs (d + 4) 358 151 [.ref 123, .int (i32 (f : Int)), .int (i32 (P : Int)), .int (i32 (e : Int)), .int y, .int (i32 (q : Int))] [] σ = cond (decide (¬ (mKd (D.K q) : Int) = 4)) (rn L xs (d + 4) 358 176 [.ref 123, .int (i32 (f : Int)), .int (i32 (P : Int)), .int (i32 (e : Int)), .int y, .int (i32 (q : Int))] [] σ) (bI (rn L xs (d + 3) 362 0 [.ref 123, .int (i32 (f : Int)), .int (i32 (P : Int)), .int (i32 (q : Int)), .int (i32 (e : Int)), jv, jv, jv, jv] [] σ) (fun a2 s1 => rn L xs (d + 4) 358 176 [.ref 123, .int (i32 (f : Int)), .int (i32 (P : Int)), .int (i32 (e : Int)), .int (y ||| a2), .int (i32 (q : Int))] [] s1) X0) := by
    rw [e358_151 (d + 3), c_in (by omega) (by omega) (by omega), i32_ixn (by omega), e151, show (4 : Int32) = i32 4 from rfl, c2_ne (by omega) (by omega) (by omega) (by omega)]
  have or1 : ∀ z : Int32, (z = 0 ∨ z = 1) → ((y ||| z) = 0 ∨ (y ||| z) = 1) ∧ (z = 0 → (y ||| z) = y) ∧ (z = 1 → (y ||| z) = 1) := fun z hz => by
    rcases hy with a | a <;> rcases hz with b | b <;> subst a <;> subst b <;> decide
  have lift : ∀ {z : Int32} {NL' : List (Nat × Nat)} {hl' : Nat → List Nat} {hv' : Nat → Nat} {s' : tvS}, HRM N G r H1 S Sh ar A j NL hl hv Q τ2 0 z NL' hl' hv' s' → HRM N G r H1 S Sh ar A j NL hl hv Q τ2 y (y ||| z) NL' hl' hv' s' := fun {z} {_} {_} {_} {_} g => by
    obtain ⟨g1, g2, g3, g4, g5, g6, g7⟩ := g
    obtain ⟨o1, o2, o3⟩ := or1 z g6
    refine ⟨g1, g2, g3, g4, g5, o1, ?_⟩
    rcases g7 with ⟨a1, a2⟩ | ⟨a1, a2⟩
    · exact .inl ⟨o2 a1, a2⟩
    · exact .inr ⟨o3 a1, a2⟩
  by_cases k3 : D.K q = 3
  · have hv2 := hRq.2.2.2.2.1 (.inr (.inl k3))
    have e157 : rd σ 157 q = i32 (D.vl q : Int) := (hfr.rd (j := 157) rfl q).trans hv2.2
    have hvle := (hPq.2.2.2.1 k3).2.1
    by_cases hvf : D.vl q = f
    · obtain ⟨s', y', NL', hl', hv', b1, b2, b3⟩ := self_hold (L := L) (xs := xs) (S := S) hD hQ hfn hq k3 hvf d R.length 0 σ NL hl hv 0 (.int (i32 (f : Int))) (.int (i32 (q : Int))) (.int (i32 (e : Int))) (.int (i32 (f : Int))) jv (by omega) hP hmk hLQ (.inl rfl)
      refine ⟨s', y ||| y', NL', hl', hv', ?_, lift b2, fun _ => ⟨fun k => by omega, fun _ k x h1 h2 => b3 k x (Nat.zero_le _) h1 h2⟩⟩
      rw [head, decide_eq_false (by rw [hkq.2.1.mpr k3]; simp), cond_false, e362_0, c_in (by omega) (by omega) (by omega), i32_ixn (by omega), e157, hvf, c2_ne (by omega) (by omega) (by omega) (by omega), decide_eq_false (by omega), cond_false]
      have b1' : rn L xs (d + 3) 362 20 [.ref 123, .int (i32 (f : Int)), .int (i32 (P : Int)), .int (i32 (q : Int)), .int (i32 (e : Int)), .int 0, .int (i32 (f : Int)), .int 0, jv] [] σ = some (.inl (some (.int y')), s') := b1
      rw [bI_ok b1']
    · obtain ⟨n1, c1, c2, c3, c4, c5⟩ := hcl q hqlo hqhi k3 (by omega)
      obtain ⟨s', y', NL', hl', hv', b1, b2, b3⟩ := old_hold (L := L) (xs := xs) (S := S) hD hQ hfn hq k3 (by omega) d (Gs.ng (D.vl q)) 0 σ NL hl hv 0 (.int (i32 (f : Int))) jv (by omega) hP hmk hLQ (.inl rfl)
      refine ⟨s', y ||| y', NL', hl', hv', ?_, lift b2, fun _ => ⟨fun _ i k h1 h2 h3 => b3 i k (Nat.zero_le _) h1 h2 h3, fun k => absurd k hvf⟩⟩
      rw [head, decide_eq_false (by rw [hkq.2.1.mpr k3]; simp), cond_false, e362_0, c_in (by omega) (by omega) (by omega), i32_ixn (by omega), e157, c2_ne (by omega) (by omega) (by omega) (by omega), decide_eq_true (by omega), cond_true, e362_71]
      have b1' : rn L xs (d + 3) 362 74 [.ref 123, .int (i32 (f : Int)), .int (i32 (P : Int)), .int (i32 (q : Int)), .int (i32 (e : Int)), .int 0, .int (i32 (D.vl q : Int)), .int 0, jv] [] σ = some (.inl (some (.int y')), s') := b1
      rw [bI_ok b1']
  · refine ⟨σ, y, NL, hl, hv, ?_, HRM.refl hP hmk hLQ hy, fun k => absurd k k3⟩
    rw [head, decide_eq_true (show ¬ (mKd (D.K q) : Int) = 4 from fun k => k3 (hkq.2.1.mp (by omega))), cond_true]
/-- all parts of the body -/
theorem body_hold (hD : RDm D Gs m f N r R S0 S1 vs us sc cl ow σ0 τ0 τ2) (hQ : HQm D Gs f N G r R ow H1 Sh M ar A Q j P e τ0) (hfn : FNe D f P e) (d : Nat) : ∀ (n q : Nat) (σ : tvS) (NL : List (Nat × Nat)) (hl : Nat → List Nat) (hv : Nat → Nat) (y : Int32), q + n = e + 1 → D.st e ≤ q → HPM N G r H1 S Sh ar A NL hl hv τ2 σ → MKj N r Sh (ar j) hl hv σ → hLe r (hC hl hv) Q → (y = 0 ∨ y = 1) →
    ∃ (σ' : tvS) (y' : Int32) (NL' : List (Nat × Nat)) (hl' : Nat → List Nat) (hv' : Nat → Nat), rn L xs (d + 4) 358 32 [.ref 123, .int (i32 (f : Int)), .int (i32 (P : Int)), .int (i32 (e : Int)), .int y, .int (i32 (q : Int))] [] σ = some (.inl (some (.int y')), σ') ∧ HRM N G r H1 S Sh ar A j NL hl hv Q τ2 y y' NL' hl' hv' σ' ∧ ∀ q', q ≤ q' → q' ≤ e → HFm D Gs f G r R ow τ0 (hC hl' hv') (ar j) P e q' := by
  obtain ⟨hF, hf, _⟩ := id hD
  have hI := hQ.1.2.2.1
  obtain ⟨e1, e2, e3, e4⟩ := hfn.at hF hf
  have hb4 := hF.1
  have hbl := (hF.le (D.fc + 1 - (f + 1)) (f + 1) (by omega))
  have hPl := hfn.2.1
  intro n
  induction n with
  | zero =>
    intro q σ NL hl hv y hn hst hP hmk hLQ hy
    refine ⟨σ, y, NL, hl, hv, ?_, HRM.refl hP hmk hLQ hy, fun q' h1 h2 => by omega⟩
    have hb : b01 y = true := by rcases hy with q | q <;> rw [q] <;> rfl
    rw [e358_32 (d + 3), c2_gt (by omega) (by omega) (by omega) (by omega), c_t (by omega), e358_182, hb, cond_true]
  | succ n ih =>
    intro q σ NL hl hv y hn hst hP hmk hLQ hy
    have hq : spn D e q := ⟨hst, by omega⟩
    obtain ⟨s1, y1, NL1, hl1, hv1, a1, a2, a3⟩ := cap_step (L := L) (xs := xs) hD hQ hfn hP hmk hLQ hy hq d
    obtain ⟨s2, y2, NL2, hl2, hv2, b1, b2, b3⟩ := put_hold (L := L) (xs := xs) hD hQ hfn a2.1 a2.2.1 a2.2.2.2.1 a2.2.2.2.2.2.1 hq d
    obtain ⟨s3, y3, NL3, hl3, hv3, c1, c2, c3⟩ := call_hold (L := L) (xs := xs) hD hQ hfn b2.1 b2.2.1 b2.2.2.2.1 b2.2.2.2.2.2.1 hq d
    obtain ⟨σ', y', NL', hl', hv', z1, z2, z3⟩ := ih (q + 1) s3 NL3 hl3 hv3 y3 (by omega) (by omega) c2.1 c2.2.1 c2.2.2.2.1 c2.2.2.2.2.2.1
    refine ⟨σ', y', NL', hl', hv', ?_, ((a2.trans b2).trans c2).trans z2, fun q' h1 h2 => ?_⟩
    · rw [a1, b1, c1, e358_176, i32_up]; exact z1
    · by_cases g : q' = q
      · rw [g]
        refine HFm.ge (h := hC hl3 hv3) ⟨fun k1 k2 => ((a3 k1 k2).ge hI b2.2.2.1).ge hI c2.2.2.1, fun i k h1 h2 h3 => ?_, fun k1 k2 => (c3 k1).2 k2⟩ hI z2.2.2.1
        by_cases g4 : D.K q = 4 ∨ D.K q = 16 ∨ D.K q = 17
        · exact (b3 g4 i k h1 h2 h3).ge hI c2.2.2.1
        · have hn : D.np Gs f q = if D.K q = 3 ∧ D.vl q < f then Gs.ng (D.vl q) else 0 := by unfold pgD.np; rw [if_neg g4]
          rw [hn] at h1
          by_cases g3 : D.K q = 3 ∧ D.vl q < f
          · rw [if_pos g3] at h1
            exact (c3 g3.1).1 g3.2 i k h1 h2 h3
          · rw [if_neg g3] at h1; omega
      · exact z3 q' (by omega) h2
end HA
end HOLDALL
