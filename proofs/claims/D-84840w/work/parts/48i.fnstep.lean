/-! ALL FUNCTIONS: one step of the loop, both sides -/
section FNSTEP
variable {L : Nat} {xs : Nat → Int32} {σ τ : tvS} {K1 K2 f : Nat} {Rc Rm : Nat → Nat → Prop} {T : tyJ} {T0f T2f : Nat → tyJ} {D : pgD} {G : sgD} {m : Nat} {cp : Nat → List (Nat × Nat)} {bS vs us sc : Nat → Nat} {cl : Nat → List Nat}
theorem TJ.less2 {Bc Bm n u a rc n' u' a' : Nat} {pd : List (Nat × List Nat × (Nat → Nat))} (h : TJ K1 K2 Bc Bm f Rc Rm pd n u a rc T σ τ) (hn : n' ≤ n) (hu : u' ≤ u) (ha : a' ≤ a) : TJ K1 K2 Bc Bm f Rc Rm pd n' u' a' rc T σ τ := by
  obtain ⟨h1, h2, h3, h4, k1, k2, k3, k4, k5, k6, k7⟩ := h
  exact ⟨h1, h2, h3, h4, by omega, by omega, by omega, by omega, k5, by omega, by omega⟩
theorem BDG.less {n u a rc rl : Nat} (h : BDG n u a rc T) (hr : rl ≤ rc) : BDG n u a rl T := by
  obtain ⟨k1, k2, k3, k4, k5, k6, k7⟩ := h
  exact ⟨k1, k2, by omega, by omega, by omega, by omega, by omega⟩
theorem BDG.rest {n u a r Fn : Nat} (h : BDG n u (a + 9 * Fn + 2) (r + Fn) T) : T.1.2.2.2.2.2 + 100000 * (9 * Fn + 2) ≤ 1000000000 ∧ T.2.1.2.2.2.2.1 + 100 * Fn < 250000 ∧ T.2.1.2.2.2.2.2.1 + 100001 * (9 * Fn + 2) ≤ 1000000000 ∧ T.2.1.2.2.2.2.2.2 + 100001 * (9 * Fn + 2) ≤ 1500000000 := by
  obtain ⟨k1, k2, k3, k4, k5, k6, k7⟩ := h
  refine ⟨Nat.le_trans (Nat.add_le_add_left (Nat.mul_le_mul_left _ ?_) _) k2, by clear k1 k2 k3 k4 k6 k7; omega, Nat.le_trans (Nat.le_trans (Nat.add_le_add_left (Nat.mul_le_mul_left _ ?_) _) (Nat.le_add_right _ _)) k6, Nat.le_trans (Nat.le_trans (Nat.add_le_add_left (Nat.mul_le_mul_left _ ?_) _) (Nat.le_add_right _ _)) k7⟩ <;> (clear k1 k2 k3 k4 k5 k6 k7; omega)
theorem BDG.go {n u a r Fn : Nat} {T2 : tyJ} (h : BDG n u (a + 9 * Fn + 2) (r + Fn) T) (e1 : T2.1.1 = T.1.1) (e2 : T2.1.2.2.2.2.2 ≤ T.1.2.2.2.2.2 + 100000 * (9 * Fn + 1)) (m1 : T2.2.1.1 = T.2.1.1) (m2 : T2.2.1.2.1 = T.2.1.2.1) (d3 : T2.2.1.2.2.2.2.1 ≤ T.2.1.2.2.2.2.1 + 100 * Fn) (d4 : T2.2.1.2.2.2.2.2.1 ≤ T.2.1.2.2.2.2.2.1 + 100001 * (9 * Fn + 2)) (d5 : T2.2.1.2.2.2.2.2.2 ≤ T.2.1.2.2.2.2.2.2 + 100001 * (9 * Fn + 2)) : BDG n u a r T2 := by
  obtain ⟨k1, k2, k3, k4, k5, k6, k7⟩ := h
  refine ⟨by rw [e1]; exact k1, ?_, by rw [m1]; omega, by rw [m1, m2]; omega, by omega, ?_, ?_⟩
  · clear k1 k3 k4 k5 k6 k7; omega
  · clear k1 k2 k3 k4 k5 k7; omega
  · clear k1 k2 k3 k4 k5 k6; omega
theorem fn_step (hF : PGF D m) (hf : f ≤ D.fc) (hK2 : 6 ≤ K2) (hm : m ≤ 520) (htoc : 3 * toc D (D.fc + 1) ≤ m) (hCX : CPX D cp) (h15 : rd σ 15 38 = i32 (D.fc : Int)) (h27 : rd τ 123 27 = i32 (D.fc : Int)) (hB : TYB D m K1 K2 cp bS vs us sc cl f G Rc Rm T0f T2f T σ τ) (d dm : Nat) (v1 u1 : Value) :
    (∃ (s τ' : tvS) (k y : Int32) (w1 : Value), rn L xs (d + 8) 21 49 [.ref 0, v1, .int (i32 (f : Int))] [] σ = some (.inr (1016, (rm s).1), cFlt s k y) ∧ (k = 5 ∨ k = 6) ∧ rn L xs (dm + 10) 284 142 [.ref 123, u1, .int (i32 (f : Int))] [] τ = rn L xs (dm + 10) 284 142 [.ref 123, w1, .int (i32 ((f + 1 : Nat) : Int))] [] τ' ∧ rd τ' 123 5 = k ∧ rd τ' 123 6 = y ∧ RLQ K1 K2 s) ∨
    ∃ (σ2 τ2 : tvS) (G' : sgD) (Rc' Rm' : Nat → Nat → Prop) (T0f' T2f' : Nat → tyJ) (T2 : tyJ) (w1 w2 : Value), rn L xs (d + 8) 21 49 [.ref 0, v1, .int (i32 (f : Int))] [] σ = rn L xs (d + 8) 21 49 [.ref 0, w1, .int (i32 ((f + 1 : Nat) : Int))] [] σ2 ∧ rn L xs (dm + 10) 284 142 [.ref 123, u1, .int (i32 (f : Int))] [] τ = rn L xs (dm + 10) 284 142 [.ref 123, w2, .int (i32 ((f + 1 : Nat) : Int))] [] τ2 ∧ rd σ2 15 38 = i32 (D.fc : Int) ∧ rd τ2 123 27 = i32 (D.fc : Int) ∧ TYB D m K1 K2 cp bS vs us sc cl (f + 1) G' Rc' Rm' T0f' T2f' T2 σ2 τ2 := by
  have hb4 := hF.1
  have hB0 := hB
  obtain ⟨b1, b2, b3, b4, ⟨Nk, ce, b5, b5'⟩, ⟨Nm, cm, b6, b6'⟩, b7, ⟨b8, b9, b10⟩, ⟨b11, b12⟩, ⟨n0, pe0, b13, b13', b13''⟩, ⟨fst, b14, b14'⟩, b15, ⟨kc0, b16, b16', b16''⟩, ⟨rf, b17, b17', b17'', b17r⟩, ⟨cf0, b18, b18'⟩, ⟨kf0, b19, b19'⟩, b20⟩ := hB
  obtain ⟨P, V, Fn, O, bk, eP, eV, eF, eO, ebk, hbk, sn, su, sa, sr, st, sP, sF, sV⟩ := bud_step hF hf
  obtain ⟨t1, t2, t3, t4⟩ := hF.up (D.fc + 1 - (f + 1)) (f + 1) (by omega)
  rw [show f + 1 + (D.fc + 1 - (f + 1)) = D.fc + 1 by omega] at t1 t2 t3 t4
  have hn24 : ∀ g, g < f → G.ng g ≤ 24 := fun g hg => (b3 g hg).2.2.1
  have hpl := puL_bound (D := D) (G := G) (f := f) hn24 (D.bP (f + 1) - D.bP f)
  rw [← eO, ← eP] at hpl
  have hO : O ≤ 173 := by omega
  have hbd0 := b1.2.2.2.2
  -- the model's loop
  have mrun : rn L xs (dm + 10) 284 142 [.ref 123, u1, .int (i32 (f : Int))] [] τ = bV (rn L xs (dm + 9) 332 0 [.ref 123, .int (i32 (f : Int)), jv] [] τ) (fun s1 => cond (pv_c1 .ne (rd s1 123 5)) (rn L xs (dm + 10) 284 174 [.ref 123, (dj u1), .int (i32 (f : Int))] [] s1) (bV (rn L xs (dm + 9) 348 0 [.ref 123, .int (i32 (f : Int)), jv, jv] [] s1) (fun s2 => rn L xs (dm + 10) 284 174 [.ref 123, (dj (dj u1)), .int (i32 (f : Int))] [] s2) X0)) X0 := by
    rw [e284_142 (dm + 9), h27, c2_gt (by omega) (by omega) (by omega) (by omega), c_f (by omega), b11, show pv_c1 .ne (0 : Int32) = false from rfl, cond_false]
  have crun : rn L xs (d + 8) 21 49 [.ref 0, v1, .int (i32 (f : Int))] [] σ = bV (rn L xs (d + 7) 142 0 [.ref 65, .int (i32 (f : Int)), jv, jv, jv] [] σ) (fun s1 => bV (rn L xs (d + 7) 163 0 [.ref 74, .int (i32 (f : Int)), jv, jv, jv, jv] [] s1) (fun s2 => rn L xs (d + 8) 21 49 [.ref 0, (jk (dj (dj v1))), .int (i32 ((f + 1 : Nat) : Int))] [] s2) X0) X0 := by
    rw [e21_49 (d + 7), h15, c2_gt (by omega) (by omega) (by omega) (by omega), c_f (by omega), i32_up]
  rcases fn_types (L := L) (xs := xs) (G := G) (n := nB D (f + 1)) (u := uB D (f + 1)) (a := aB D (f + 1) + 9 * Fn + 2) (rc := rB D f) (rl := rB D (f + 1) + Fn) (cx := rB D (f + 1) + Fn) (Nk := Nk) (ce := ce) (Nm := Nm) (cm := cm) hF hf hK2 b2 b3 b5 b6 b11 (fun l hl => (b12 l hl).1) b6' (by rw [← eO]; omega) (b1.less2 (by rw [← eP]; omega) (by rw [← eV, ← eF, ← ebk]; omega) (by rw [← eP]; omega)) (by
      obtain ⟨k1, k2, k3⟩ := hbd0
      unfold CRM
      rw [← eO, ← eP, ← eV, ← eF, ← ebk]
      exact ⟨by omega, by omega, by omega, by omega⟩) d dm jv jv jv jv with ⟨σa, τa, Ta, pd, rc', a1, a2, hI, wc, wm, hg, hex, ⟨hHa, hKP⟩, oc, om⟩ | ⟨s, τ', y, a1, a2, a3, a4, a5, a6, _⟩
  · have eka : ∀ j, inL (50 :: FC42) j = false → ∀ i, rd σa j i = rd σ j i := fun j h i => wc.rd h i
    have ekm : ∀ j, inL (123 :: FM42) j = false → ∀ i, rd τa j i = rd τ j i := fun j h i => wm.rd h i
    have hbdA := hI.1.2.2.2.2
    have hrA : BDG (nB D (f + 1)) (uB D (f + 1)) (aB D (f + 1) + 9 * Fn + 2) (rB D (f + 1) + Fn) Ta := by
      obtain ⟨⟨_, _, _, _, _, _, _, _, hr, _⟩, _⟩ := hI.2.2.2
      exact hbdA.less (by omega)
    have h5a : rd τa 123 5 = 0 := (wm.2 5 rfl).trans b11
    have k18 : rd σa 74 18 = i32 (kc0 : Int) := by rw [eka 74 rfl]; exact b16
    have k13 : rd σa 65 13 = i32 (rf : Int) := by rw [oc.2.2.2.2.2 13 (by decide)]; exact b17
    have k103 : rd τa 123 103 = i32 (cf0 : Int) := (wm.2 103 rfl).trans b18
    have k107 : rd τa 123 107 = i32 (kf0 : Int) := (wm.2 107 rfl).trans b19
    have kBX : BXS fst σa := ⟨by rw [eka 74 rfl]; exact b14.1, by rw [(wc.1.2.2 81 rfl).1]; exact b14.2.1, by rw [(wc.1.2.2 81 rfl).1, (wc.1.2.2 82 rfl).1]; exact b14.2.2⟩
    have hfn := fnN_le hF hf
    rw [← eF] at hfn
    rcases fn_regions (L := L) (xs := xs) (n0 := n0) (fst := fst) (kc0 := kc0) (rf := rf) (cf0 := cf0) (kf0 := kf0) (pe0 := pe0) (cp := cp) (bS := bS) (vs := vs) (us := us) (sc := sc) (cl := cl) hF hf hK2 hI hg b4 (b8.to (fun j hj i => eka j (inL_off (S' := 50 :: FC42) (by decide) j hj) i) ⟨(wc.1.2.2 40 rfl).1, (wc.1.2.2 41 rfl).1⟩) (b9.to (fun i => eka 43 rfl i) (fun j hj i => ekm j (inL_off (S' := 123 :: FM42) (by decide) j hj) i)) (b10.to (fun i => eka 15 rfl i) (fun i => eka 30 rfl i) (fun i => ekm 146 rfl i)) hCX
      ⟨by rw [eka 74 rfl]; exact b13.1, by rw [(wc.1.2.2 75 rfl).1]; exact b13.2.1, by rw [(wc.1.2.2 75 rfl).1, (wc.1.2.2 76 rfl).1]; exact b13.2.2.1, fun i hi => by rw [eka 75 rfl]; exact b13.2.2.2 i hi⟩ (fun i hi => Nat.lt_of_lt_of_le (b13' i hi) hex.2.2.1) kBX (by omega) (fun t ht => by rw [ekm 184 rfl]; exact b15 t ht) (by rw [← eP]; omega) (by rw [← eP]; omega) h5a (fun l hl => by rw [eka 13 rfl, ekm 127 rfl]; exact b12 l hl)
      (by rw [← eF]; omega) (by
        rw [← eF]
        exact (hrA).rest.1) (fun T1 hT1 => by
        rw [← eF]
        exact hT1.rest.2) k18 (by rw [(wc.1.2.2 85 rfl).1]; exact b16') (by rw [← eF]; omega) k13 (by rw [(wc.1.2.2 73 rfl).1]; exact b17') (by omega) (by omega) (by omega) k103 k107 d (dm + 2) jv jv jv jv jv jv with ⟨s, τ', y, q1, q2, q3, q4, q5⟩ | ⟨τ1, σ', τ', σ2, τ2, T1, T', T2, pd1, rc1, bl, R, ow, pe, pt, by', kc, cf, kg, kf, gf, gk, c1, c2, c3, c4, c5, c6, c7, c8, c9, c10, d1, d2, d3, d4, d5⟩
    · left
      refine ⟨s, τ', 6, y, jk (dj (dj u1)), ?_, .inr rfl, ?_, q3, q4, q5⟩
      · rw [crun, bV_ok a1, bV_ex q1]; rfl
      · have q2' : rn L xs (dm + 9) 348 0 [.ref 123, .int (i32 (f : Int)), jv, jv] [] τa = some (.inl none, τ') := q2
        rw [mrun, bV_ok a2, h5a, show pv_c1 .ne (0 : Int32) = false from rfl, cond_false, bV_ok q2', e284_174 (dm + 9), i32_up]
    · right
      have c2' : rn L xs (dm + 9) 348 0 [.ref 123, .int (i32 (f : Int)), jv, jv] [] τa = some (.inl none, τ2) := c2
      have hrl : BDG (nB D (f + 1)) (uB D (f + 1)) (aB D (f + 1) + 9 * Fn + 2) (rB D (f + 1) + Fn) T1 := by
        obtain ⟨⟨_, _, _, _, _, _, _, _, hr, _⟩, _⟩ := c3.2.2.2
        exact c3.1.2.2.2.2.less (by omega)
      rw [← eF] at d1 d2 d3 d4 d5
      have hbd2 : BDG (nB D (f + 1)) (uB D (f + 1)) (aB D (f + 1)) (rB D (f + 1)) T2 := by
        obtain ⟨_, _, _, ⟨e1, e2, _, _⟩, ⟨m1, m2, _, _⟩, _⟩ := id c10
        exact hrl.go e1 (by rw [c6]; exact d2) m1 m2 d3 d4 d5
      have hN := TYB.next hF hf hB0 hI wc wm hex (by
        obtain ⟨Nk', ce', x1, x2⟩ := hKP
        exact ⟨Nk', ce', x1, by omega⟩) oc om c3 c4 c5 c7 c8 c9 c10 (by omega) hbd2 (by omega) kBX b14' b13'' k18 b16'' k13 b17'' b17r k103 b18' k107 b19' (by omega) hn24
      refine ⟨σ2, τ2, _, _, _, _, _, T2, jk (dj (dj v1)), jk (dj (dj u1)), ?_, ?_, ?_, ?_, hN⟩
      · rw [crun, bV_ok a1, bV_ok c1]
      · rw [mrun, bV_ok a2, h5a, show pv_c1 .ne (0 : Int32) = false from rfl, cond_false, bV_ok c2', e284_174 (dm + 9), i32_up]
      · exact hN.2.2.2.2.2.2.2.1.2.2.1
      · obtain ⟨hO', _, _, _, _, _, _, ⟨nb, hEm⟩, _⟩ := c10
        obtain ⟨_, _, _, _, _, _, _, _, _, _, _, _, _, _, _, _, _, _, frx⟩ := hO'
        rw [hEm.2.2.2.2.2.2.2.2.2.2.2.1 27 rfl, frx.2.1 27 rfl, c7.2 27 rfl, wm.2 27 rfl]; exact h27
  · left
    refine ⟨s, τ', 5, y, jk (dj u1), ?_, .inl rfl, ?_, a3, a4, a5.1, a5.2, by rw [(a6.1.2.2 76 rfl).1, (a6.1.2.2 75 rfl).1]; exact b13.2.2.1, by rw [(a6.1.2.2 82 rfl).1, (a6.1.2.2 81 rfl).1]; exact b14.2.2⟩
    · rw [crun, bV_ex a1]; rfl
    · rw [mrun, bV_ok a2, a3, show pv_c1 .ne (5 : Int32) = true from rfl, cond_true, e284_174 (dm + 9), i32_up]
/-- all functions: types and regions are found on both sides, or the same fault -/
theorem fn_loop (hF : PGF D m) (hK2 : 6 ≤ K2) (hm : m ≤ 520) (htoc : 3 * toc D (D.fc + 1) ≤ m) (hCX : CPX D cp) (d dm : Nat) : ∀ (j f : Nat) (σ τ : tvS) (G : sgD) (Rc Rm : Nat → Nat → Prop) (T0f T2f : Nat → tyJ) (T : tyJ) (v1 u1 : Value), f + j = D.fc + 1 → rd σ 15 38 = i32 (D.fc : Int) → rd τ 123 27 = i32 (D.fc : Int) → TYB D m K1 K2 cp bS vs us sc cl f G Rc Rm T0f T2f T σ τ →
    (∃ (s τ' : tvS) (k y : Int32) (w1 w2 : Value), rn L xs (d + 8) 21 49 [.ref 0, v1, .int (i32 (f : Int))] [] σ = some (.inr (1016, (rm s).1), cFlt s k y) ∧ (k = 5 ∨ k = 6) ∧ rn L xs (dm + 10) 284 142 [.ref 123, u1, .int (i32 (f : Int))] [] τ = rn L xs (dm + 10) 284 180 [.ref 123, w1, w2] [] τ' ∧ rd τ' 123 5 = k ∧ rd τ' 123 6 = y ∧ RLQ K1 K2 s) ∨
    ∃ (σ2 τ2 : tvS) (G' : sgD) (Rc' Rm' : Nat → Nat → Prop) (T0f' T2f' : Nat → tyJ) (T2 : tyJ) (w1 w2 w3 w4 : Value), rn L xs (d + 8) 21 49 [.ref 0, v1, .int (i32 (f : Int))] [] σ = rn L xs (d + 8) 21 82 [.ref 0, w1, w2] [] σ2 ∧ rn L xs (dm + 10) 284 142 [.ref 123, u1, .int (i32 (f : Int))] [] τ = rn L xs (dm + 10) 284 180 [.ref 123, w3, w4] [] τ2 ∧ TYB D m K1 K2 cp bS vs us sc cl (D.fc + 1) G' Rc' Rm' T0f' T2f' T2 σ2 τ2 := by
  have hb4 := hF.1
  intro j
  induction j with
  | zero =>
    intro f σ τ G Rc Rm T0f T2f T v1 u1 e h15 h27 hB
    have e : f = D.fc + 1 := by omega
    subst e
    refine .inr ⟨σ, τ, G, Rc, Rm, T0f, T2f, T, v1, .int (i32 ((D.fc + 1 : Nat) : Int)), u1, .int (i32 ((D.fc + 1 : Nat) : Int)), ?_, ?_, hB⟩
    · rw [e21_49 (d + 7), h15, c2_gt (by omega) (by omega) (by omega) (by omega), c_t (by omega)]
    · rw [e284_142 (dm + 9), h27, c2_gt (by omega) (by omega) (by omega) (by omega), c_t (by omega)]
  | succ j ih =>
    intro f σ τ G Rc Rm T0f T2f T v1 u1 e h15 h27 hB
    rcases fn_step (L := L) (xs := xs) hF (show f ≤ D.fc by omega) hK2 hm htoc hCX h15 h27 hB d dm v1 u1 with ⟨s, τ', k, y, w1, a1, a2, a3, a4, a5, a6⟩ | ⟨σ2, τ2, G', Rc', Rm', T0f', T2f', T2, w1, w2, a1, a2, a3, a4, a5⟩
    · left
      have hk : pv_c1 .ne (rd τ' 123 5) = true := by rw [a4]; rcases a2 with q | q <;> rw [q] <;> rfl
      refine ⟨s, τ', k, y, w1, .int (i32 ((f + 1 : Nat) : Int)), a1, a2, ?_, a4, a5, a6⟩
      rw [a3, e284_142 (dm + 9), hk, cond_true]
      cases pv_c2 .gt (i32 ((f + 1 : Nat) : Int)) (rd τ' 123 27) <;> rfl
    · rw [a1, a2]
      exact ih (f + 1) σ2 τ2 G' Rc' Rm' T0f' T2f' T2 w1 w2 (by omega) a3 a4 a5
end FNSTEP
