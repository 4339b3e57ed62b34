/-! CODE: calls -/
section CODECALL
variable {L : Nat} {xs : Nat → Int32} {σ σ' σ0 τ0 : tvS} {K1 K2 N f a n : Nat} {C : tG} {c : Nat → Nat} {cf : Int} {D : pgD} {G : sgD} {rg : rgD} {cd : cdD} {m : Nat} {cp : Nat → List (Nat × Nat)} {dp : Nat → Nat}
theorem kid_i {l : List Nat} {w k : Nat} (h : l[w]? = some k) : kid l w = i32 (k : Int) := by unfold kid; rw [h]
theorem kids_loop {p : Nat} (hE : CEN D G rg cd m N c cp dp σ0 τ0) (hf : f ≤ D.fc) (IH : PTC L xs K1 K2 N C c D rg cd dp f cf σ0 n) (h1 : D.bP f ≤ p) (h2 : p < D.bP (f + 1)) (hfn : cd.fn D p = cf) (hdp : 100 ≤ dp p + (n + 1)) (hK : D.K p = 3) (x3 : Int32) (d : Nat) :
    ∀ (l : List Nat) (w s a : Nat) (σ : tvS), (D.kd p).drop w = l → contN D.st s l p → CDS K1 K2 N C c f cf a σ0 σ → SLS D cd cf p σ → a + sumF (cqF D rg cd f cf) s (p - s) + 10 ≤ 131000 → ∃ (σ' : tvS) (b : Nat) (v2 v4 v5 : Value), rn L xs (d + 3 * n + 7) 203 24 [.ref 94, .int (i32 (p : Int)), .int (i32 (cd.hg p : Int)), .int x3, .int (i32 (w : Int)), .int (kid (D.kd p) w)] [] σ = rn L xs (d + 3 * n + 7) 203 58 [.ref 94, .int (i32 (p : Int)), v2, .int x3, v4, v5] [] σ' ∧ CDS K1 K2 N C c f cf b σ0 σ' ∧ KCH (CA D rg cd (rd σ' 95) f n) l a b ∧ CEX cd.sl a σ σ' ∧ a ≤ b ∧ b ≤ a + sumF (cqF D rg cd f cf) s (p - s) := by
  obtain ⟨u1, u2, u3, u4, u5, u6⟩ := hE.up hf
  intro l
  induction l with
  | nil =>
    intro w s a σ hd hc hC hS hz
    have hn : (D.kd p)[w]? = none := by
      have : (D.kd p).length ≤ w := List.drop_eq_nil_iff.mp hd
      exact List.getElem?_eq_none this
    have hkw : kid (D.kd p) w = i32 (-1) := by unfold kid; rw [hn]
    refine ⟨σ, a, .int (i32 (cd.hg p : Int)), .int (i32 (w : Int)), .int (i32 (-1)), ?_, hC, rfl, CEX.refl, Nat.le_refl _, by omega⟩
    rw [hkw, e203_24, i32_raw, c2_refl]
  | cons k r ih =>
    intro w s a σ hd hc hC hS hz
    obtain ⟨c1, c2, c3, c4⟩ := hc
    have hk : (D.kd p)[w]? = some k := by
      have := congrArg (fun l => l[0]?) hd
      simpa using this
    have hdr : (D.kd p).drop (w + 1) = r := by
      have := congrArg (fun l => l.drop 1) hd
      simpa [List.drop_drop] using this
    obtain ⟨z1, z2, z3, z4, z5, z6, z7, z8⟩ := hE.kid hf h1 h2 (by omega) hk
    have sn0 : D.sn p w = [] := by unfold pgD.sn; rw [if_neg (by omega), if_neg (by omega), if_neg (by omega)]
    have hgk : cd.hg k = cd.hg p + w := by rw [z7]; unfold hgw; rw [if_neg (by omega), if_neg (by omega), if_neg (by omega)]
    have e1 := sumF_kid (w := cqF D rg cd f cf) (s := s) (k := k) (k' := p) (by omega) (by omega)
    have e0 : sumF (cqF D rg cd f cf) s (k + 1 - s) = sumF (cqF D rg cd f cf) (D.st k) (k + 1 - D.st k) := by rw [c1]
    rw [e0] at e1
    obtain ⟨s1, x, a1, a2, a3, a4, a5⟩ := IH k a d σ z1 (by omega) (z5.trans hfn) (by omega) hC (hS.kid z8 (fun v hv => by rw [sn0] at hv; cases hv)) (by omega)
    have lt1 := CA.lt _ _ _ _ a3
    obtain ⟨s2, b, v2, v4, v5, b1, b2, b3, b4, b5, b6⟩ := ih (w + 1) (k + 1) x s1 hdr c4 a2 (hS.go a4) (by omega)
    refine ⟨s2, b, v2, v4, v5, ?_, b2, ⟨x, CA.to _ _ _ _ a3 (fun i i1 i2 => b4.1 i i2), b3⟩, a4.trans b4 (by omega), by omega, by omega⟩
    have r23 : rd s1 23 k = kid (D.kd p) (w + 1) := by
      rw [a2.2.2.2.2.2.2.1.1 23 rfl]; exact ((hE.2.1.2 p (by omega)).2.2.1 hK).2.1 w k hk
    rw [kid_i hk, e203_24 (d + 3 * n + 6), i32_raw, c2_eq (by omega) (by omega) (by omega) (by omega), c_f (by omega), i32_add, show ((cd.hg p : Int) + (w : Int)) = ((cd.hg p + w : Nat) : Int) by omega, ← hgk]
    rw [bV_ok a1, c_in (by omega) (by omega) (by omega), i32_ixn (by omega), r23, i32_up]
    exact b1
theorem hand_loop {p : Nat} (hE : CEN D G rg cd m N c cp dp σ0 τ0) (hf : f ≤ D.fc) (h1 : D.bP f ≤ p) (h2 : p < D.bP (f + 1)) (hK : D.K p = 3) (d : Nat) :
    ∀ (j i a : Nat) (σ : tvS) (v2 v4 : Value), i + j = (rg.gl (D.vl p)).length → CDS K1 K2 N C c f cf a σ0 σ → a + 2 * j ≤ 131000 → ∃ (σ' : tvS), rn L xs (d + 4) 203 80 [.ref 94, .int (i32 (p : Int)), v2, .int (i32 (D.vl p : Int)), v4, .int (i32 (i : Int))] [] σ = some (.inl none, σ') ∧ CDS K1 K2 N C c f cf (a + 2 * j) σ0 σ' ∧ (∀ t, t < j → rd σ' 95 (a + 2 * t) = i32 (handN D rg f p (i + t) : Int) ∧ rd σ' 95 (a + 2 * t + 1) = i32 ((rg.gl (D.vl p)).getD (i + t) 0 : Nat)) ∧ CEX cd.sl a σ σ' := by
  obtain ⟨u1, u2, u3, u4, u5, u6⟩ := hE.up hf
  have hp := (hE.1.2.2 f hf).2.2.1 p h1 h2
  obtain ⟨w1, w2, w3, w4⟩ := hp.2.2.2.1 hK
  obtain ⟨fst, bl, ⟨b1, b2, b3, b4, b5, b6, b7⟩, b8, ⟨b9, b9b, b9c, b9d, b9e, b9f, b9g⟩, b10, b11, b12⟩ := hE.2.2.2.1 f hf
  obtain ⟨fsg, bg, ⟨g1, g2, g3, g4, g5, g6, g7⟩, g8, ⟨g9, g9b, g9c, g9d, g9e, g9f, g9g⟩, g10, g11, g12⟩ := hE.2.2.2.1 (D.vl p) (by omega)
  have hbk := (hE.1.2.2 (D.vl p) (by omega)).1.2.2.2
  have r27 := ((hE.2.1.2 p (by omega)).2.2.2.2.1 (.inr (.inl hK))).1
  have r44 := (hE.2.1.1 (D.vl p) (by omega)).1.1
  intro j
  induction j with
  | zero =>
    intro i a σ v2 v4 hj hC hz
    refine ⟨σ, ?_, hC, fun t ht => (by omega), CEX.refl⟩
    have w := hC.2.2.2.2.2.2.1
    have p154 : rn L xs (d + 3) 154 0 [.ref 65, .int (i32 (D.vl p : Int))] [] σ = some (.inl (some (.int (i32 (G.ng (D.vl p) : Int)))), σ) := by
      rw [e154_0, c_in (by omega) (by omega) (by omega), i32_ixn (by omega), w.1 72 rfl, g9b]
    rw [e203_80 (d + 3), bI_ok p154, c2_ge (by omega) (by omega) (by omega) (by omega), c_t (by omega), e203_167]
  | succ j ih =>
    intro i a σ v2 v4 hj hC hz
    have hN := hC.1.lt hC.2.1
    have w := hC.2.2.2.2.2.2.1
    have hi : i < (rg.gl (D.vl p)).length := by omega
    obtain ⟨kg, kg1, kg2, kg3⟩ := nfil_get (mk := fun k => rg.ow (D.vl p) k = -1) (N := rg.nK (D.vl p)) (i := i) hi
    have kg3 : (rg.gl (D.vl p)).getD i 0 = kg + 1 := kg3
    have p154 : rn L xs (d + 3) 154 0 [.ref 65, .int (i32 (D.vl p : Int))] [] σ = some (.inl (some (.int (i32 (G.ng (D.vl p) : Int)))), σ) := by
      rw [e154_0, c_in (by omega) (by omega) (by omega), i32_ixn (by omega), w.1 72 rfl, g9b]
    have mem : ∀ {l : List Nat} {k : Nat}, k < l.length → l.getD k 0 ∈ l := fun {l k} hk => by
      rw [List.getD_eq_getElem?_getD, List.getElem?_eq_getElem hk]; exact List.getElem_mem hk
    -- region(g, i)
    have p146 : ∀ s : tvS, frG FCD [95] σ0 s → rn L xs (d + 3) 146 0 [.ref 65, .int (i32 (D.vl p : Int)), .int (i32 (i : Int))] [] s = some (.inl (some (.int (i32 (bg.getD kg 0 : Nat)))), s) := fun s ws => by
      rw [e146_0, c_in (by omega) (by omega) (by omega), i32_ixn (by omega), ws.1 71 rfl, g9c, i32_add, show ((G.rf (D.vl p) : Int) + (i : Int)) = ((G.rf (D.vl p) + i : Nat) : Int) by omega, (ws.2.2 73 rfl).1, c_in (by omega) (by omega) (by omega), i32_ixn (by omega), ws.1 73 rfl, g9g i (by omega), kg3, Nat.add_sub_cancel]
    -- the first number
    have one : ∃ (s : tvS) (v2' v4' : Value), rn L xs (d + 4) 203 80 [.ref 94, .int (i32 (p : Int)), v2, .int (i32 (D.vl p : Int)), v4, .int (i32 (i : Int))] [] σ = bV (rn L xs (d + 3) 199 0 [.ref 94, .int (i32 (handN D rg f p i : Int))] [] s) (fun s3 => bI (rn L xs (d + 3) 146 0 [.ref 65, .int (i32 (D.vl p : Int)), .int (i32 (i : Int))] [] s3) (fun a5 s4 => bI (rn L xs (d + 3) 167 0 [.ref 74, .int (i32 (D.vl p : Int)), .int a5, jv, jv] [] s4) (fun a7 s6 => bV (rn L xs (d + 3) 199 0 [.ref 94, .int a7] [] s6) (fun s8 => rn L xs (d + 4) 203 80 [.ref 94, .int (i32 (p : Int)), v2', .int (i32 (D.vl p : Int)), v4', .int (i32 (i : Int) + 1)] [] s8) X0) X0) X0) X0 ∧ CDS K1 K2 N C c f cf a σ0 s ∧ frW [52] σ s := by
      by_cases q : D.vl p = f
      · have hbg : bg.length = rg.nK f := by rw [g1, q]
        have x1 : c (bl.getD kg 0) = c (bg.getD kg 0) := by
          have e1 := b9g i (by rw [b9, ← q]; exact hi)
          have e2 := g9g i (by omega)
          rw [show rg.gl f = rg.gl (D.vl p) by rw [q], kg3, Nat.add_sub_cancel] at e1
          rw [kg3, Nat.add_sub_cancel, q, e1] at e2
          have l1 := b5 _ (mem (l := bl) (k := kg) (by rw [b1, ← q]; exact kg1))
          have l2 := g5 _ (mem (l := bg) (k := kg) (by rw [g1]; exact kg1))
          have := (i32_inj (by omega) (by omega) (by omega) (by omega)).mp e2
          rw [show bl.getD kg 0 = bg.getD kg 0 by omega]
        obtain ⟨s1, a1, a2, a3⟩ := num_code (L := L) (xs := xs) (k := kg) (x := bg.getD kg 0) hC (show f < 21 by omega) b3 b5 b6 (by rw [b1, ← q]; exact kg1) (g5 _ (mem (by rw [g1]; exact kg1))) x1 (d + 1) jv jv
        have hh : handN D rg f p i = kg + 1 := by unfold handN; rw [if_pos q, show rg.gl f = rg.gl (D.vl p) by rw [q], kg3]
        refine ⟨s1, dj (dj (dj (dj (dj (dj (dj v2)))))), jk (dj (dj (dj (dj (dj (dj (dj v4))))))), ?_, a2, a3⟩
        · rw [e203_80 (d + 3), bI_ok p154, c2_ge (by omega) (by omega) (by omega) (by omega), c_f (by omega), hC.2.2.2.2.1, c2_ne (by omega) (by omega) (by omega) (by omega), c_f (by omega), bI_ok (p146 σ w), e203_133 (d + 3), bI_ok a1, hh]
      · obtain ⟨l70, hcl⟩ := b11
        obtain ⟨k0, f1, f2, f3, f4⟩ := hcl p h1 h2 hK (by omega)
        have hcn : D.cn G p = D.bk (D.vl p) + 1 + G.ng (D.vl p) := rfl
        have hnp : D.np G f p = G.ng (D.vl p) := by unfold pgD.np; rw [if_neg (by omega), if_pos ⟨hK, by omega⟩]
        obtain ⟨n1, n2, n3, n4⟩ := b8 p i h1 h2 (by omega)
        have epn : pnC D σ0 p i = cT σ0 p (D.bk (D.vl p) + 1 + i) := by unfold pnC; rw [if_neg (by omega)]
        rw [epn] at n3 n4
        have f3' := (f3 (D.bk (D.vl p) + 1 + i) (by omega)).1
        have p155 : rn L xs (d + 3) 155 0 [.ref 65, .int (i32 (p : Int)), .int (i32 (i : Int))] [] σ = some (.inl (some (.int (i32 (cT σ0 p (D.bk (D.vl p) + 1 + i) : Int)))), σ) := by
          rw [e155_0, c_in (by omega) (by omega) (by omega), c_in (by omega) (by omega) (by omega), i32_ixn (by omega), w.1 27 rfl, r27, c_in (by omega) (by omega) (by omega), i32_ixn (by omega), w.1 69 rfl, f1, w.1 44 rfl, r44, i32_add, show ((k0 : Int) + (D.bk (D.vl p) : Int)) = ((k0 + D.bk (D.vl p) : Nat) : Int) by omega, i32_up, i32_add, show (((k0 + D.bk (D.vl p) + 1 : Nat) : Int) + (i : Int)) = ((k0 + (D.bk (D.vl p) + 1 + i) : Nat) : Int) by omega, (w.2.2 70 rfl).1, c_in (by omega) (by omega) (by omega), i32_ixn (by omega), w.1 70 rfl, f3']
        obtain ⟨s1, a1, a2, a3⟩ := num_code (L := L) (xs := xs) (k := rg.nu p i - 1) hC (show f < 21 by omega) b3 b5 b6 (by omega) n4 n3 (d + 1) jv jv
        rw [show rg.nu p i - 1 + 1 = rg.nu p i by omega] at a1
        have hh : handN D rg f p i = rg.nu p i := by unfold handN; rw [if_neg q]
        refine ⟨s1, dj (dj (dj (dj (dj (dj (dj v2)))))), jk (dj (dj (dj (dj (dj (dj (dj v4))))))), ?_, a2, a3⟩
        · rw [e203_80 (d + 3), bI_ok p154, c2_ge (by omega) (by omega) (by omega) (by omega), c_f (by omega), hC.2.2.2.2.1, c2_ne (by omega) (by omega) (by omega) (by omega), c_t (by omega), e203_123 (d + 3), bI_ok p155, e203_133 (d + 3), bI_ok a1, hh]
    obtain ⟨s1, v2', v4', a1, a2, a3⟩ := one
    obtain ⟨s2, c1, c2, c3, c4, _⟩ := put_code (L := L) (xs := xs) (sl := cd.sl) a2 (by omega) (i32 (handN D rg f p i : Int)) (d + 2)
    obtain ⟨s3, i1, i2, i3⟩ := num_code (L := L) (xs := xs) (k := kg) (x := bg.getD kg 0) c2 (show D.vl p < 21 by omega) g3 g5 g6 (by rw [g1]; exact kg1) (g5 _ (mem (by rw [g1]; exact kg1))) rfl (d + 1) jv jv
    obtain ⟨s4, j1, j2, j3, j4, _⟩ := put_code (L := L) (xs := xs) (sl := cd.sl) i2 (by omega) (i32 ((kg + 1 : Nat) : Int)) (d + 2)
    obtain ⟨s5, m1, m2, m3, m4⟩ := ih (i + 1) (a + 1 + 1) s4 v2' v4' (by omega) j2 (by omega)
    refine ⟨s5, ?_, by rw [show a + 2 * (j + 1) = a + 1 + 1 + 2 * j by omega]; exact m2, fun t ht => ?_, ?_⟩
    · rw [a1, bV_ok c1, bI_ok (p146 s2 c2.2.2.2.2.2.2.1), bI_ok i1, bV_ok j1, i32_up]; exact m1
    · by_cases t0 : t = 0
      · subst t0
        refine ⟨?_, ?_⟩
        · show rd s5 95 a = i32 (handN D rg f p i : Int)
          rw [m4.1 a (by omega), j4.1 a (by omega), i3.1 95 rfl]; exact c3
        · show rd s5 95 (a + 1) = i32 ((rg.gl (D.vl p)).getD i 0 : Nat)
          rw [m4.1 (a + 1) (by omega), kg3]; exact j3
      · have := m3 (t - 1) (by omega)
        rw [show a + 1 + 1 + 2 * (t - 1) = a + 2 * t by omega, show i + 1 + (t - 1) = i + t by omega] at this
        exact this
    · exact (((CEX.W (a := a) a3).trans c4 (by omega)).trans (CEX.W (a := a + 1) i3) (by omega) |>.trans j4 (by omega)).trans m4 (by omega)
theorem in_call {p : Nat} (hE : CEN D G rg cd m N c cp dp σ0 τ0) (hf : f ≤ D.fc) (IH : PTC L xs K1 K2 N C c D rg cd dp f cf σ0 n) (h1 : D.bP f ≤ p) (h2 : p < D.bP (f + 1)) (hfn : cd.fn D p = cf) (hdp : 100 ≤ dp p + (n + 1)) (hK : D.K p = 3) (hC : CDS K1 K2 N C c f cf a σ0 σ) (hS : SLS D cd cf p σ) (hz : a + sumF (cqF D rg cd f cf) (D.st p) (p - D.st p) + 55 ≤ 131000) (d : Nat) :
    ∃ (σ' : tvS) (x : Nat), rn L xs (d + 3 * n + 8) 201 0 [.ref 94, .int (i32 (p : Int)), .int (i32 (cd.hg p : Int))] [] σ = some (.inl none, σ') ∧ CDS K1 K2 N C c f cf (x + 3 + 2 * (rg.gl (D.vl p)).length) σ0 σ' ∧ (rg.gl (D.vl p)).length ≤ 24 ∧ KCH (CA D rg cd (rd σ' 95) f n) (D.kd p) a x ∧ rd σ' 95 x = 24 ∧ rd σ' 95 (x + 1) = i32 (D.vl p : Int) ∧ rd σ' 95 (x + 2) = i32 ((rg.gl (D.vl p)).length : Int) ∧ (∀ i, i < (rg.gl (D.vl p)).length → rd σ' 95 (x + 3 + 2 * i) = i32 (handN D rg f p i : Int) ∧ rd σ' 95 (x + 4 + 2 * i) = i32 ((rg.gl (D.vl p)).getD i 0 : Nat)) ∧ CEX cd.sl a σ σ' ∧ a ≤ x ∧ x ≤ a + sumF (cqF D rg cd f cf) (D.st p) (p - D.st p) := by
  obtain ⟨u1, u2, u3, u4, u5, u6⟩ := hE.up hf
  have hp := (hE.1.2.2 f hf).2.2.1 p h1 h2
  obtain ⟨w1, w2, w3, w4⟩ := hp.2.2.2.1 hK
  obtain ⟨_, _, _, _, ⟨g9, g9b, _, _, _, g9f, _⟩, _⟩ := hE.2.2.2.1 (D.vl p) (by omega)
  have r27 := ((hE.2.1.2 p (by omega)).2.2.2.2.1 (.inr (.inl hK))).1
  have r20 := ((hE.2.1.2 p (by omega)).2.2.1 hK).1
  have w := hC.2.2.2.2.2.2.1
  obtain ⟨s1, x, v2, v4, v5, a1, a2, a3, a4, a5, a6⟩ := kids_loop (L := L) (xs := xs) hE hf IH h1 h2 hfn hdp hK (i32 (D.vl p : Int)) d (D.kd p) 0 (D.st p) a σ rfl hp.2.1 hC hS (by omega)
  obtain ⟨s2, b1, b2, b3, b4, b5, _⟩ := put_two (L := L) (xs := xs) (sl := cd.sl) a2 (by omega) 24 (i32 (D.vl p : Int)) (d + 3 * n + 4)
  have p154 : rn L xs (d + 3 * n + 6) 154 0 [.ref 65, .int (i32 (D.vl p : Int))] [] s2 = some (.inl (some (.int (i32 (G.ng (D.vl p) : Int)))), s2) := by
    rw [e154_0, c_in (by omega) (by omega) (by omega), i32_ixn (by omega), b2.2.2.2.2.2.2.1.1 72 rfl, g9b]
  obtain ⟨s3, c1, c2, c3, c4, _⟩ := put_code (L := L) (xs := xs) (sl := cd.sl) b2 (by omega) (i32 (G.ng (D.vl p) : Int)) (d + 3 * n + 5)
  obtain ⟨s4, j1, j2, j3, j4⟩ := hand_loop (L := L) (xs := xs) hE hf h1 h2 hK (d + 3 * n + 3) (rg.gl (D.vl p)).length 0 (x + 2 + 1) s3 (dj (dj (dj v2))) (jk (dj (dj (dj v4)))) (by omega) c2 (by omega)
  refine ⟨s4, x, ?_, j2, by omega, ?_, ?_, ?_, ?_, fun i hi => ?_, ((a4.trans b5 (by omega)).trans c4 (by omega)).trans j4 (by omega), a5, a6⟩
  · rw [in_go hE hf h1 h2 hC _ (d + 3 * n + 7), hK]
    show rn L xs (d + 3 * n + 8) 201 149 _ [] σ = _
    have p203 : rn L xs (d + 3 * n + 7) 203 0 [.ref 94, .int (i32 (p : Int)), .int (i32 (cd.hg p : Int)), jv, jv, jv] [] σ = some (.inl none, s4) := by
      rw [e203_0 (d + 3 * n + 6), c_in (by omega) (by omega) (by omega), c_in (by omega) (by omega) (by omega), i32_ixn (by omega), w.1 27 rfl, r27, w.1 20 rfl, r20]
      refine Eq.trans a1 ?_
      rw [e203_58 (d + 3 * n + 6), bV_ok b1, bI_ok p154, bV_ok c1]
      exact j1
    rw [e201_149 (d + 3 * n + 7), bV_ok p203, e201_352]
  · exact KCH.to (CA.lt n) _ _ _ a x (Nat.le_refl _) (Nat.le_refl _) (fun k x' y' _ q1 q2 q => CA.to _ _ _ _ q (fun i i1 i2 => by rw [j4.1 i (by omega), c4.1 i (by omega), b5.1 i (by omega)])) a3
  · rw [j4.1 x (by omega), c4.1 x (by omega)]; exact b3
  · rw [j4.1 (x + 1) (by omega), c4.1 (x + 1) (by omega)]; exact b4
  · rw [j4.1 (x + 2) (by omega), ← g9]; exact c3
  · have := j3 i hi
    rw [Nat.zero_add, show x + 2 + 1 + 2 * i + 1 = x + 4 + 2 * i by omega] at this
    exact this
end CODECALL
