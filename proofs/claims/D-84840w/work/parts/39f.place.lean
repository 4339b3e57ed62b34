/-! TYPING, BOTH: places, with new types -/
section PLACE2
variable {L : Nat} {xs : Nat → Int32} {σ σ' τ τ' : tvS}
variable {K1 K2 Bc Bm f : Nat} {Rc Rm : Nat → Nat → Prop} {pd : List (Nat × List Nat × (Nat → Nat))} {n u a rc : Nat} {T : tyJ} {p : Nat}
/-- two unknowns and one that is of them -/
theorem TJ.new3 {k : Nat} (hT : TJ K1 K2 Bc Bm f Rc Rm pd (n + 3) u a rc T σ τ) (hk : k = 2 ∨ k = 4) (d dm : Nat) :
    ∃ (s1 s2 s3 t1 t2 t3 : tvS) (T3 : tyJ) (x1 x2 x3 y1 y2 y3 : Nat), rn L xs (d + 4) 81 0 [.ref 50] [] σ = some (.inl (some (.int (i32 (x1 : Int)))), s1) ∧ rn L xs (d + 4) 81 0 [.ref 50] [] s1 = some (.inl (some (.int (i32 (x2 : Int)))), s2) ∧ rn L xs (d + 4) 79 0 [.ref 50, .int (i32 (k : Int)), .int (i32 (x1 : Int)), .int (i32 (x2 : Int)), jv] [] s2 = some (.inl (some (.int (i32 (x3 : Int)))), s3) ∧
      rn L xs (dm + 4) 333 0 [.ref 123] [] τ = some (.inl (some (.int (i32 (y1 : Int)))), t1) ∧ rn L xs (dm + 4) 333 0 [.ref 123] [] t1 = some (.inl (some (.int (i32 (y2 : Int)))), t2) ∧ rn L xs (dm + 4) 331 0 [.ref 123, .int (i32 (k : Int)), .int (i32 (y1 : Int)), .int (i32 (y2 : Int)), jv] [] t2 = some (.inl (some (.int (i32 (y3 : Int)))), t3) ∧
      TJ K1 K2 Bc Bm f Rc Rm pd n u a rc T3 s3 t3 ∧ exT Bc Bm T T3 ∧ T3.2.2 x3 y3 ∧ cuN Bc x3 ∧ cuN Bm y3 ∧ T3.1.2.1.1 (T3.1.2.2.1 x3) = k ∧ frT gro8 gro8 [8] σ s3 ∧ frM gro9 [63] τ t3 ∧ LOC T T3 (fun _ => False) (fun b => b = x1 ∨ b = x2 ∨ b = x3) ∧ yC T3 = yC T ∧ yH T3 = yH T := by
  obtain ⟨s1, t1, T1, a1, a2, a3, a4, a5, a6, a7, a8, a9, a10, a11, a12, a13, a14⟩ := TJ.new (L := L) (xs := xs) (k := 0) (x := 0) (y := 0) (x' := 0) (y' := 0) (i2 := i32 (-1)) (i3 := i32 (-1)) (j2 := i32 (-1)) (j3 := i32 (-1)) hT (by omega) (by omega) (fun h => by omega) (d + 1) (dm + 2) jv jv
  obtain ⟨s2, t2, T2, b1, b2, b3, b4, b5, b6, b7, b8, b9, b10, b11, b12, b13, b14⟩ := TJ.new (L := L) (xs := xs) (k := 0) (x := 0) (y := 0) (x' := 0) (y' := 0) (i2 := i32 (-1)) (i3 := i32 (-1)) (j2 := i32 (-1)) (j3 := i32 (-1)) a3 (by omega) (by omega) (fun h => by omega) (d + 1) (dm + 2) jv jv
  obtain ⟨s3, t3, T3, e1, e2, e3, e4, e5, e6, e7, e8, e9, e10, e11, e12, e13, e14⟩ := TJ.new (L := L) (xs := xs) (k := k) (x := T.1.1) (y := T1.1.1) (x' := T.2.1.1) (y' := T1.2.1.1) (i2 := i32 (T.1.1 : Int)) (i3 := i32 (T1.1.1 : Int)) (j2 := i32 (T.2.1.1 : Int)) (j3 := i32 (T1.2.1.1 : Int)) b3 (by omega) (by omega) (fun _ => ⟨⟨rfl, rfl, b4.1 _ _ a5, .inl a6, .inl a7⟩, fun _ => ⟨rfl, rfl, b5, .inl b6, .inl b7⟩⟩) (d + 2) (dm + 3) jv jv
  have l1 := a11.weak (B' := fun _ => False) (fun x hx => absurd hx.1 (by decide)) (fun _ h => h)
  have l2 := l1.trans a12 (fun t u h => by rw [a13] at h; exact h) b11 (fun z hz => absurd hz.1 (by decide))
  have l3 := l2.trans (b12.trans a12) (fun t u h => by rw [b13, a13] at h; exact h) e11 (fun z hz => .inr (.inl (hz.2.elim .inl (fun h => .inr h.2))))
  exact ⟨s1, s2, s3, t1, t2, t3, T3, T.1.1, T1.1.1, T2.1.1, T.2.1.1, T1.2.1.1, T2.2.1.1, unk_c (d + 1) a1, unk_c (d + 1) b1, e1, unk_m (dm + 2) a2, unk_m (dm + 2) b2, e2, e3, a4.trans (b4.trans e4), e5, .inl e6, .inl e7, e8, a9.trans (b9.trans e9), a10.trans (b10.trans e10), l3.weak (fun _ h => h) (fun z hz => hz.elim (fun h => .inl (.inl h)) (fun h => h.elim (fun h => .inl (.inr h)) .inr)), e12.trans (b12.trans a12), e13.trans (b13.trans a13)⟩
/-- a pair is wanted, or an arrow -/
theorem plc_box {κ ρ k q x1 y1 l : Nat} {k0 : Int32} (hT : TJ K1 K2 Bc Bm f Rc Rm pd (n + 3) u (a + 1) rc T σ τ) (hK2 : 6 ≤ K2) (hp : p < 4101) (hρ : rd σ 25 p = i32 (ρ : Int)) (hq : q < 4101) (h2 : rd τ 159 p = i32 (q : Int)) (h3 : rd τ 151 q = i32 (κ : Int)) (h0 : rd τ 154 q = k0) (hκ : (κ = 6 ∧ ρ = 3 ∧ k = 2) ∨ (κ = 7 ∧ ρ = 4 ∧ k = 4 ∧ k0 = i32 (p : Int))) (hl : rd σ 17 p = i32 (l : Int)) (hl2 : l < 3001) (h5 : rd σ 66 p = i32 (x1 : Int)) (h4 : rd τ 178 p = i32 (y1 : Int)) (z1 : T.2.2 x1 y1) (c1 : cuN Bc x1) (m1 : cuN Bm y1) (d dm : Nat) : PLC L xs K1 K2 Bc Bm f Rc Rm pd pd n u a rc T p l d dm σ τ τ (fun T' s t => T'.1.2.1.1 (T'.1.2.2.1 x1) = k ∧ k67 σ τ s t ∧ LOC T T' (fun b => b = x1) (fun b => b = x1)) := by
  have hk : k = 2 ∨ k = 4 := by omega
  obtain ⟨s1, s2, s3, t1, t2, t3, T3, e1, e2, e3, g1, g2, g3, a1, a2, a3, b1, b2, b3, i1, i2, i3, i4, i5, i6, w1, w2, w3, w4, w5⟩ := hT.new3 (L := L) (xs := xs) hk (d + 1) (dm + 3)
  have r66 : rd s3 66 p = i32 (x1 : Int) := by rw [w1.rd (j := 66) rfl]; exact h5
  have r17 : rd s3 17 p = i32 (l : Int) := by rw [w1.rd (j := 17) rfl]; exact hl
  have r13 : rd s3 13 l = rd σ 13 l := w1.rd (j := 13) rfl l
  have W := want_J (L := L) (xs := xs) i1 hK2 hp r66 r17 hl2 (i2.1 _ _ z1) i3 c1 i4 m1 i5 d (dm + 3)
  have gc : ∃ u2 u3 u4 u5, rn L xs (d + 6) 149 0 [.ref 65, .int (i32 (p : Int)), .int (i32 (f : Int)), jv, jv, jv] [] σ = bV (rn L xs (d + 5) 150 0 [.ref 65, .int (i32 (p : Int)), .int (i32 (e3 : Int))] [] s3) (fun s1 => rn L xs (d + 6) 149 355 [.ref 65, .int (i32 (p : Int)), u2, u3, u4, u5] [] s1) X0 := by
    rcases hκ with ⟨_, h, h'⟩ | ⟨_, h, h', _⟩
    · subst h; subst h'
      refine ⟨dj (dj (dj (dj (.int (i32 (f : Int)))))), dj (dj (dj (dj (.int (rd σ 24 p))))), dj (dj (dj (dj jv))), dj (dj (dj (dj jv))), ?_⟩
      rw [plc0_c (ρ := 3) (q := 0) hp (by omega) hρ (d + 5), show t149 3 = 113 from rfl, e149_113 (d + 5), bI_ok a1, bI_ok a2]
      have a3' : rn L xs (d + 5) 79 0 [.ref 50, .int 2, .int (i32 (e1 : Int)), .int (i32 (e2 : Int)), jv] [] s2 = some (.inl (some (.int (i32 (e3 : Int)))), s3) := a3
      rw [bI_ok a3']
    · subst h; subst h'
      refine ⟨dj (dj (dj (dj (.int (i32 (f : Int)))))), dj (dj (dj (dj (.int (rd σ 24 p))))), dj (dj (dj (dj jv))), dj (dj (dj (dj jv))), ?_⟩
      rw [plc0_c (ρ := 4) (q := 0) hp (by omega) hρ (d + 5), show t149 4 = 143 from rfl, e149_143 (d + 5), bI_ok a1, bI_ok a2]
      have a3' : rn L xs (d + 5) 79 0 [.ref 50, .int 4, .int (i32 (e1 : Int)), .int (i32 (e2 : Int)), jv] [] s2 = some (.inl (some (.int (i32 (e3 : Int)))), s3) := a3
      rw [bI_ok a3']
  obtain ⟨u2, u3, u4, u5, gc⟩ := gc
  have gm : ∀ (x : Int32) (t : tvS), b01 x = true → rn L xs (dm + 7) 341 0 [.ref 123, .int (i32 (y1 : Int)), .int (i32 (g3 : Int)), jv, jv, jv, jv] [] t3 = some (.inl (some (.int x)), t) → rn L xs (dm + 8) 340 0 [.ref 123, .int (i32 (f : Int)), .int (i32 (p : Int)), jv, jv, jv, jv, jv] [] τ = some (.inl (some (.int x)), t) := by
    intro x t hx h
    rcases hκ with ⟨h6, _, h'⟩ | ⟨h6, _, h', h7⟩
    · subst h6; subst h'
      have b3' : rn L xs (dm + 7) 331 0 [.ref 123, .int 2, .int (i32 (g1 : Int)), .int (i32 (g2 : Int)), jv] [] t2 = some (.inl (some (.int (i32 (g3 : Int)))), t3) := b3
      rw [plc0_m (κ := 6) (by omega) hq (by omega) h2 h3 h4 h0 (dm + 7), show t340 6 = 171 from rfl, e340_171 (dm + 7), bI_ok b1, bI_ok b2, bI_ok b3', bI_ok h, hx, cond_true]
    · subst h6; subst h'
      have b3' : rn L xs (dm + 7) 331 0 [.ref 123, .int 4, .int (i32 (g1 : Int)), .int (i32 (g2 : Int)), jv] [] t2 = some (.inl (some (.int (i32 (g3 : Int)))), t3) := b3
      rw [plc0_m (κ := 7) (by omega) hq (by omega) h2 h3 h4 h0 (dm + 7), if_pos h7, show t340 7 = 191 from rfl, e340_191 (dm + 7), show pv_c1 .eq (1 : Int32) = false from rfl, cond_false, bI_ok b1, bI_ok b2, bI_ok b3', bI_ok h, e340_244, hx, cond_true]
  rcases W with ⟨s0, t4, q1, q2, q3, q4, q5⟩ | ⟨s4, t4, T4, q1, q2, q3, q4, q5, q6, q7, q8⟩
  · rw [r13] at q1
    exact .inl ⟨s0, t4, by rw [gc, bV_ex q1]; rfl, gm 0 t4 b01_0 q2, q3, (w1.sub rfl rfl rfl).trans q4, (w2.sub rfl rfl).trans (q5.sub rfl rfl)⟩
  · refine .inr ⟨s4, t4, T4, by rw [gc, bV_ok q1, e149_355], gm 1 t4 b01_1 q2, q3, i2.trans q4, (w1.sub rfl rfl rfl).trans (q6.sub rfl rfl rfl), (w2.sub rfl rfl).trans (q7.sub rfl rfl), ?_, ⟨fun i => (q6.rd (j := 67) rfl i).trans (w1.rd (j := 67) rfl i), fun i => (q7.rd (j := 179) rfl i).trans (w2.rd (j := 179) rfl i)⟩, ((w3.weak (B' := fun b => b = x1) (fun _ h => h.elim) (fun _ h => h)).trans w4 (fun t u h => by rw [w5] at h; exact h) q8 (fun z hz => hz.elim .inl (fun h => .inr (.inl (.inr (.inr h)))))).weak (fun _ h => h) (fun _ h => .inr (.inl h))⟩
    show T4.1.2.1.1 (T4.1.2.2.1 x1) = k
    rw [q5, q4.2.1 e3 (by rw [i6]; omega), i6]
/-- what an arrow is given -/
theorem plc_given {q b x1 y1 x y l : Nat} {k0 : Int32} (hT : TJ K1 K2 Bc Bm f Rc Rm pd n u (a + 1) rc T σ τ) (hK2 : 6 ≤ K2) (hp : p < 4101) (hρ : rd σ 25 p = i32 5) (hq : q < 4101) (h1 : rd σ 24 p = i32 (q : Int)) (h2 : rd τ 159 p = i32 (q : Int)) (h3 : rd τ 151 q = i32 7) (h0 : rd τ 154 q = i32 (b : Int)) (hn0 : i32 (b : Int) ≠ i32 (p : Int)) (hb : b < 4101) (h6 : rd σ 20 q = i32 (b : Int)) (h7 : rd σ 66 b = i32 (x : Int)) (h7' : rd τ 178 b = i32 (y : Int)) (zb : T.2.2 x y) (cb : cuN Bc x) (mb : cuN Bm y) (hk : T.1.2.1.1 (T.1.2.2.1 x) = 4) (hl : rd σ 17 p = i32 (l : Int)) (hl2 : l < 3001) (h5 : rd σ 66 p = i32 (x1 : Int)) (h4 : rd τ 178 p = i32 (y1 : Int)) (z1 : T.2.2 x1 y1) (c1 : cuN Bc x1) (m1 : cuN Bm y1) (d dm : Nat) : PLC L xs K1 K2 Bc Bm f Rc Rm pd pd n u a rc T p l d dm σ τ τ (fun T' s t => k67 σ τ s t ∧ LOC T T' (fun b => b = x1 ∨ b = x) (fun b => b = x1) ∧ ∃ z, bxT T' x 4 x1 z) := by
  obtain ⟨⟨s1, A, a1, a2, a3, a4⟩, _, ⟨t1, b1, b2, b3, b4, b5, b6⟩, zz, _⟩ := hT.kid (L := L) (xs := xs) zb cb mb (by rw [hk]; decide) (d + 3) (dm + 6)
  subst a2
  have r66 : rd s1 66 p = i32 (x1 : Int) := by rw [a4.rd (j := 66) rfl]; exact h5
  have r17 : rd s1 17 p = i32 (l : Int) := by rw [a4.rd (j := 17) rfl]; exact hl
  have r13 : rd s1 13 l = rd σ 13 l := a4.rd (j := 13) rfl l
  have W := want_J (L := L) (xs := xs) (b5 _ a3) hK2 hp r66 r17 hl2 z1 zz.1 c1 zz.2.1 m1 zz.2.2 d (dm + 3)
  have gc : rn L xs (d + 6) 149 0 [.ref 65, .int (i32 (p : Int)), .int (i32 (f : Int)), jv, jv, jv] [] σ = bV (rn L xs (d + 5) 150 0 [.ref 65, .int (i32 (p : Int)), .int (i32 (T.1.2.1.2.1 (T.1.2.2.1 x) : Int))] [] s1) (fun s1 => rn L xs (d + 6) 149 355 [.ref 65, .int (i32 (p : Int)), dj (dj (.int (i32 (f : Int)))), .int (i32 (q : Int)), dj (dj jv), dj (dj jv)] [] s1) X0 := by
    rw [plc0_c (ρ := 5) (q := 0) hp (by omega) hρ (d + 5), show t149 5 = 173 from rfl, h1, e149_173 (d + 5), c_in (by omega) (by omega) (by omega), i32_ixn (by omega), h6, c_in (by omega) (by omega) (by omega), i32_ixn (by omega), h7, bI_ok a1]
  have gm : ∀ (z : Int32) (t : tvS), b01 z = true → rn L xs (dm + 7) 341 0 [.ref 123, .int (i32 (y1 : Int)), .int (i32 (T.2.1.2.1.2.1 (T.2.1.2.2.1 y) : Int)), jv, jv, jv, jv] [] t1 = some (.inl (some (.int z)), t) → rn L xs (dm + 8) 340 0 [.ref 123, .int (i32 (f : Int)), .int (i32 (p : Int)), jv, jv, jv, jv, jv] [] τ = some (.inl (some (.int z)), t) := by
    intro z t hz h
    rw [plc0_m (κ := 7) (by omega) hq (by omega) h2 h3 h4 h0 (dm + 7), if_neg hn0, show t340 7 = 191 from rfl, e340_191 (dm + 7), show pv_c1 .eq (0 : Int32) = true from rfl, cond_true, e340_218 (dm + 7), c_in (by omega) (by omega) (by omega), i32_ixn (by omega), h0, c_in (by omega) (by omega) (by omega), i32_ixn (by omega), h7', bI_ok b1, c_in (by omega) (by omega) (by omega), i32_ixn (by omega), b3, bI_ok h, e340_244, hz, cond_true]
  rcases W with ⟨s0, t4, q1, q2, q3, q4, q5⟩ | ⟨s4, t4, T4, q1, q2, q3, q4, q5, q6, q7, q8⟩
  · rw [r13] at q1
    exact .inl ⟨s0, t4, by rw [gc, bV_ex q1]; rfl, gm 0 t4 b01_0 q2, q3, (a4.sub rfl rfl rfl).trans q4, (b6.sub rfl rfl).trans (q5.sub rfl rfl)⟩
  · exact .inr ⟨s4, t4, T4, by rw [gc, bV_ok q1, e149_355], gm 1 t4 b01_1 q2, q3, q4, (a4.sub rfl rfl rfl).trans (q6.sub rfl rfl rfl), (b6.sub rfl rfl).trans (q7.sub rfl rfl), ⟨fun i => (q6.rd (j := 67) rfl i).trans (a4.rd (j := 67) rfl i), fun i => (q7.rd (j := 179) rfl i).trans (b6.rd (j := 179) rfl i)⟩, (q8.cl (B' := fun b => b = x1 ∨ b = x) (fun P p1 p2 p3 z hz => hz.elim (fun h => p3 z (.inl h)) (fun h => by rw [h]; exact (clR.kid (fun x hx => (hT.c0.1 x hx).2) hT.c0.2.2.1 (by show 2 ≤ T.1.2.1.1 (T.1.2.2.1 x); rw [hk]; decide) p1 (p3 x (.inr rfl))).1))).weak (fun _ h => h) (fun _ h => .inr (.inl h)), (yG T).2.2 (yC T x), (bxT.ex (T := T) (k := 4) (a := (yG T).2.1 (yC T x)) (b := (yG T).2.2 (yC T x)) ⟨hk, rfl, fun _ => rfl⟩ (by decide) q8 (fun x hx => (hT.c0.1 x hx).2) hT.c0.2.2.1 q3.c0.2.2.1).to rfl q5.symm (fun _ => rfl)⟩
/-- the rest of a join -/
theorem plc_tail {q b x1 y1 x y l : Nat} (hT : TJ K1 K2 Bc Bm f Rc Rm pd (n + 1) u (a + 1) rc T σ τ) (hK2 : 6 ≤ K2) (hp : p < 4101) (hρ : rd σ 25 p = i32 7) (hq : q < 4101) (h1 : rd σ 24 p = i32 (q : Int)) (h2 : rd τ 159 p = i32 (q : Int)) (h3 : rd τ 151 q = i32 9) (h0 : rd τ 154 q = i32 (b : Int)) (hn0 : i32 (b : Int) ≠ i32 (p : Int)) (hb : b < 4101) (h6 : rd σ 20 q = i32 (b : Int)) (h7 : rd σ 66 b = i32 (x : Int)) (h7' : rd τ 178 b = i32 (y : Int)) (zb : T.2.2 x y) (cb : cuN Bc x) (mb : cuN Bm y) (hl : rd σ 17 p = i32 (l : Int)) (hl2 : l < 3001) (h5 : rd σ 66 p = i32 (x1 : Int)) (h4 : rd τ 178 p = i32 (y1 : Int)) (z1 : T.2.2 x1 y1) (c1 : cuN Bc x1) (m1 : cuN Bm y1) (d dm : Nat) : PLC L xs K1 K2 Bc Bm f Rc Rm pd pd n u a rc T p l d dm σ τ τ (fun T' s t => k67 σ τ s t ∧ LOC T T' (fun b => b = x1 ∨ b = x) (fun b => b = x1) ∧ bxT T' x1 3 x 0) := by
  obtain ⟨s1, t1, T1, a1, a2, a3, a4, a5, a6, a7, a8, a9, a10, a11, a12, a13, a14⟩ := TJ.new (L := L) (xs := xs) (k := 3) (x := x) (y := 0) (x' := y) (y' := 0) (i2 := i32 (x : Int)) (i3 := i32 (-1)) (j2 := i32 (y : Int)) (j3 := i32 (-1)) hT (by omega) (by omega) (fun _ => ⟨⟨rfl, rfl, zb, cb, mb⟩, fun h => absurd rfl h⟩) (d + 3) (dm + 6) jv jv
  have r66 : rd s1 66 p = i32 (x1 : Int) := by rw [a9.rd (j := 66) rfl]; exact h5
  have r17 : rd s1 17 p = i32 (l : Int) := by rw [a9.rd (j := 17) rfl]; exact hl
  have r13 : rd s1 13 l = rd σ 13 l := a9.rd (j := 13) rfl l
  have W := want_J (L := L) (xs := xs) a3 hK2 hp r66 r17 hl2 (a4.1 _ _ z1) a5 c1 (.inl a6) m1 (.inl a7) d (dm + 3)
  have a1' : rn L xs (d + 5) 79 0 [.ref 50, .int 3, .int (i32 (x : Int)), .int (i32 (-1)), jv] [] σ = some (.inl (some (.int (i32 T.1.1))), s1) := a1
  have a2' : rn L xs (dm + 7) 331 0 [.ref 123, .int 3, .int (i32 (y : Int)), .int (i32 (-1)), jv] [] τ = some (.inl (some (.int (i32 T.2.1.1))), t1) := a2
  have gc : rn L xs (d + 6) 149 0 [.ref 65, .int (i32 (p : Int)), .int (i32 (f : Int)), jv, jv, jv] [] σ = bV (rn L xs (d + 5) 150 0 [.ref 65, .int (i32 (p : Int)), .int (i32 (T.1.1 : Int))] [] s1) (fun s1 => rn L xs (d + 6) 149 355 [.ref 65, .int (i32 (p : Int)), dj (dj (.int (i32 (f : Int)))), .int (i32 (q : Int)), dj (dj jv), dj (dj jv)] [] s1) X0 := by
    rw [plc0_c (ρ := 7) (q := 0) hp (by omega) hρ (d + 5), show t149 7 = 221 from rfl, h1, e149_221 (d + 5), c_in (by omega) (by omega) (by omega), i32_ixn (by omega), h6, c_in (by omega) (by omega) (by omega), i32_ixn (by omega), h7, i32_raw, bI_ok a1']
  have gm0 : ∀ (z : Int32) (t : tvS), rn L xs (dm + 7) 341 0 [.ref 123, .int (i32 (y1 : Int)), .int (i32 (T.2.1.1 : Int)), jv, jv, jv, jv] [] t1 = some (.inl (some (.int z)), t) → (z = 0 ∨ z = 1) → rn L xs (dm + 8) 340 0 [.ref 123, .int (i32 (f : Int)), .int (i32 (p : Int)), jv, jv, jv, jv, jv] [] τ = some (.inl (some (.int z)), t) := by
    intro z t h hz
    rw [plc0_m (κ := 9) (by omega) hq (by omega) h2 h3 h4 h0 (dm + 7), if_neg hn0, show t340 9 = 245 from rfl, e340_245 (dm + 7), show pv_c1 .ne (0 : Int32) = false from rfl, cond_false, c_in (by omega) (by omega) (by omega), i32_ixn (by omega), h0, c_in (by omega) (by omega) (by omega), i32_ixn (by omega), h7', i32_raw, bI_ok a2', bI_ok h]
    rcases hz with e | e
    · subst e; rw [show pv_c1 .eq (0 : Int32) = true from rfl, cond_true, e340_280, e340_281, b01_0, cond_true]
    · subst e; rw [show pv_c1 .eq (1 : Int32) = false from rfl, cond_false, e340_276, e340_281, b01_1, cond_true]
  rcases W with ⟨s0, t4, q1, q2, q3, q4, q5⟩ | ⟨s4, t4, T4, q1, q2, q3, q4, q5, q6, q7, q8⟩
  · rw [r13] at q1
    exact .inl ⟨s0, t4, by rw [gc, bV_ex q1]; rfl, gm0 0 t4 q2 (.inl rfl), q3, (a9.sub rfl rfl rfl).trans q4, (a10.sub rfl rfl).trans (q5.sub rfl rfl)⟩
  · exact .inr ⟨s4, t4, T4, by rw [gc, bV_ok q1, e149_355], gm0 1 t4 q2 (.inr rfl), q3, a4.trans q4, (a9.sub rfl rfl rfl).trans (q6.sub rfl rfl rfl), (a10.sub rfl rfl).trans (q7.sub rfl rfl), ⟨fun i => (q6.rd (j := 67) rfl i).trans (a9.rd (j := 67) rfl i), fun i => (q7.rd (j := 179) rfl i).trans (a10.rd (j := 179) rfl i)⟩, ((a11.weak (B' := fun b => b = x1 ∨ b = x) (fun z hz => hz.2.elim .inr (fun h => absurd rfl h.1)) (fun _ h => h)).trans a12 (fun t u h => by rw [a13] at h; exact h) q8 (fun z hz => hz.elim (fun h => .inl (.inl h)) (fun h => .inr (.inl h)))).weak (fun _ h => h) (fun _ h => .inr (.inl h)), (bxT.ex (a14 (by decide)) (by decide) q8 (fun x hx => (a3.c0.1 x hx).2) a3.c0.2.2.1 q3.c0.2.2.1).to q5.symm rfl (fun _ => rfl)⟩
end PLACE2
