/-! RUNS, COMPONENT: a closure, the whole of it -/
section CCLO2
variable {L : Nat} {xs : Nat → Int32} {σ σ' σ0 σ1 σ2 : tvS} {D : pgD} {rg : rgD} {cd : cdD} {X X' : dyD} {n n' nr wd pgs cs a i st ev B no f k r sz to N p j0 : Nat} {pl : Nat → Nat} {fl : List Nat} {s s' : cSt} {pg : Nat → List Nat} {fn : Nat → Nat × Nat} {bk : Nat → Nat} {x : obD} {v : vaL} {A : alD} {vs : List vaL}
/-- it ends here -/
theorem cend_c {c : Nat} (hP : CPo s pg fl [] nr wd pgs σ) (hM : CMc fn B no st ev nr σ) (hp1 : 1 ≤ pgs) (d : Nat) : ∃ σ', rn L xs (d + 2) 252 0 [.ref 117, .int (i32 (c : Int))] [] σ = some (.inl none, σ') ∧ CVR st c s B no pgs wd ev σ' ∧ frW [100, 103, 106, 117] σ σ' := by
  obtain ⟨⟨a1, a2, a3, a4, a5, a6, a7, a8⟩, _, _, _, _, _, f2, _⟩ := hP
  obtain ⟨c1, c2, c3, c4, c5, c6, c7⟩ := hM
  exact end_c f2 hp1 a1 a2 a5 c2 c4 a7 a8 c6 c7 d
theorem cclo_c (hRS : RSc D rg cd cs σ) (hU : PUH X n nr wd N A) (hH : GCH D rg cd X n nr wd) (hP : CPs D X n nr wd pgs s pl pg fl σ) (hF : CMf rg X bk i σ) (hM : CMc fn X.B X.no st ev nr σ) (hf : X.ff i = f) (hk : 1 ≤ k ∧ k ≤ rg.nK f) (hnK : ∀ j, j ≤ i → rg.nK (X.ff j) ≤ 60) (hr : X.aR i k = r) (hrn : r < nr) (hcp : s.cp < 10000000) (hev : ev ≤ 10000) (hp1 : 1 ≤ pgs) (ha : rd σ 117 8 = i32 (a : Int)) (hl : a + 2 + 2 * (cd.cg j0).length ≤ cs) (hop : rd σ 95 a = i32 (k : Int)) (hop2 : rd σ 95 (a + 1) = i32 (j0 : Int)) (hj : j0 < D.bF (D.fc + 1)) (hj2 : j0 < 4101) (hvl : D.vl p = j0) (hlen : (cd.cg j0).length + (rg.kp j0).length ≤ 100) (hkl : (rg.kp j0).length ≤ 60) (hbs : X.bs i ≤ n) (hvs : vs.length = (cd.cg j0).length) (hv : ∀ j w, vs[j]? = some w → VCq (rd σ 95) X i n (a + 2 + 2 * j) w ∧ w.1 ≤ 2) (hkp : ∀ j, j < (rg.kp j0).length → 1 ≤ (rg.kp j0).getD j 0 ∧ (rg.kp j0).getD j 0 ≤ rg.nK f ∧ X.aR i ((rg.kp j0).getD j 0) < 2000)
    (hx : x = ((3, p), (r, X.ser r), vs, (rg.kp j0).map (fun k => (X.aR i k, X.ser (X.aR i k))))) (hsz : sz = 1 + (cd.cg j0).length + (rg.kp j0).length) (hX' : X' = (uq X.sv n (2, i32 ((X.no + 1 : Nat) : Int)), (uq X.hp (X.no + 1) x, X.no + 1, X.B), X.2.2)) (d : Nat) :
    (∃ (s' : cSt) (σ' : tvS) (pl' : Nat → Nat) (pg' : Nat → List Nat) (fl' : List Nat), n < 4000 ∧ putP A N wd pgs ev X.no s r sz = .inl (plP s' r sz) ∧ rn L xs (d + 10) 269 0 [.ref 117, jv, jv, jv, jv, jv, jv, jv, jv] [] σ = some (.inl none, σ') ∧ CPs D X' (n + 1) nr wd pgs (plP s' r sz) pl' pg' fl' σ' ∧ CMf rg X' bk i σ' ∧ CMc fn X.B (X.no + 1) st ev nr σ' ∧ rd σ' 117 8 = i32 ((a + 2 + 2 * (cd.cg j0).length : Nat) : Int) ∧ frW RCr σ σ') ∨
    (∃ (s' : cSt) (σ' : tvS), n = 4000 ∧ putP A N wd pgs ev X.no s r sz = .inl (plP s' r sz) ∧ rn L xs (d + 10) 269 0 [.ref 117, jv, jv, jv, jv, jv, jv, jv, jv] [] σ = some (.inl none, σ') ∧ CVR st 4 (plP s' r sz) X.B (X.no + 1) pgs wd ev σ' ∧ frW RCr σ σ') ∨
    (∃ (c : Nat) (s' : cSt) (σ' : tvS), putP A N wd pgs ev X.no s r sz = .inr (c, s') ∧ rn L xs (d + 10) 269 0 [.ref 117, jv, jv, jv, jv, jv, jv, jv, jv] [] σ = some (.inl none, σ') ∧ (c = 3 ∨ c = 5) ∧ CVR st c s' X.B X.no pgs wd ev σ' ∧ frW RCr σ σ') := by
  have hno : X.no < 30000 := hU.2.2.2.2.1
  have hn4 := hP.2.1.2.1
  have pn := next_c (L := L) (xs := xs) hRS ha (by omega) (d + 7)
  rw [hop] at pn
  obtain ⟨σa, ha1⟩ : ∃ σa, σa = wr σ 117 8 (i32 ((a + 1 : Nat) : Int)) := ⟨_, rfl⟩
  rw [← ha1] at pn
  have wa : frW [117] σ σa := by rw [ha1]; exact frW_wr rfl
  have pn2 := next_c (L := L) (xs := xs) (hRS.fr wa rfl) (a := a + 1) (by rw [ha1, wr_self]) (by omega) (d + 7)
  rw [wa.1 95 rfl, hop2] at pn2
  obtain ⟨σ1, h1⟩ : ∃ σ1, σ1 = wr σa 117 8 (i32 ((a + 1 + 1 : Nat) : Int)) := ⟨_, rfl⟩
  rw [← h1] at pn2
  have w1 : frW [117] σ σ1 := wa.trans (by rw [h1]; exact frW_wr rfl)
  have q117 : ∀ q, q ≠ 8 → rd σ1 117 q = rd σ 117 q := fun q hq => by rw [h1, wr_nei hq, ha1, wr_nei hq]
  have hP1 := hP.fr w1 rfl
  have hF1 : CMf rg X bk i σ1 := hF.fr (fun q hq => q117 q (by omega)) (fun j hj q => by rcases hj with e | e | e | e | e <;> rw [e] <;> exact w1.1 _ rfl q)
  have hM1 : CMc fn X.B X.no st ev nr σ1 := hM.fr (fun q _ => w1.1 103 rfl q) (fun q hq => q117 q (by omega)) (fun j hj q => by rcases hj with e | e <;> rw [e] <;> exact w1.1 _ rfl q)
  have hRS1 := hRS.fr w1 rfl
  have hC1 := hRS1.2.2.2.1
  have pw := words_c (L := L) (xs := xs) (j := j0) hC1 hj hj2 (d + 7)
  rw [← hsz] at pw
  have head : ∀ R, rn L xs (d + 9) 267 0 [.ref 117, .int (i32 (k : Int)), .int (i32 (sz : Int)), jv] [] σ1 = R → rn L xs (d + 10) 269 0 [.ref 117, jv, jv, jv, jv, jv, jv, jv, jv] [] σ = bI R (fun a8 s7 => cond (pv_c2 .ne a8 (i32 (-1))) (rn L xs (d + 10) 269 30 [.ref 117, .int (i32 (k : Int)), .int (i32 (j0 : Int)), .int a8, (dj (dj (dj (dj jv)))), (dj (dj (dj (dj jv)))), (dj (dj (dj (dj jv)))), (dj (dj (dj (dj jv)))), (dj (dj (dj (dj jv))))] [] s7) (some (.inl none, s7))) X0 := fun R hR => by
    rw [e269_0 (d + 9), bI_ok pn, bI_ok pn2, bI_ok pw, hR]; rfl
  rcases room_c (L := L) (xs := xs) (sz := sz) hU hH hC1 hP1 hF1 hM1 hf hk hnK hr hrn hcp (by omega) (by omega) hev hp1 d with ⟨s', σ2, to, b1, b2, b3, b4⟩ | ⟨c, s', σ2, b1, b2, b3, b4, b5⟩
  · obtain ⟨pl1, pg1, fl1, g1, g2, g3, g4, g5, g6, g7, g8, g9, g10⟩ := b4
    have hto : to + sz ≤ 51200 := g4.2.1
    have hok' := g5.pl hrn g7
    -- the head
    have e2j : (2 : Int32) + i32 (j0 : Int) = i32 ((2 + j0 : Nat) : Int) := by rw [show (2 : Int32) = i32 2 from rfl, i32_add]; congr 1
    obtain ⟨σ3, e3⟩ : ∃ σ3, σ3 = wr (wr σ2 104 to (i32 ((2 + j0 : Nat) : Int))) 105 to (i32 ((0 : Nat) : Int)) := ⟨_, rfl⟩
    have p3 := set_c (L := L) (xs := xs) (σ := σ2) (k := to) (y := i32 ((2 + j0 : Nat) : Int)) (z := 0) (by omega) (by omega) (d + 8)
    rw [← e3] at p3
    have p3 : rn L xs (d + 9) 238 0 [.ref 103, .int (i32 (to : Int)), .int (i32 ((2 + j0 : Nat) : Int)), .int 0] [] σ2 = some (.inl none, σ3) := p3
    have w3 : frW [104, 105] σ2 σ3 := by rw [e3]; exact (frW_wr rfl).trans (frW_wr rfl)
    have w13 : frW COF σ1 σ3 := g9.trans (w3.sub rfl)
    have h117 : ∀ q, rd σ3 117 q = rd σ1 117 q := fun q => w13.1 117 rfl q
    have hRS3 : RSc D rg cd cs σ3 := hRS1.fr w13 rfl
    have hS3 : CSt n X.sv pl1 σ3 := g2.fr (fun j hj q => by rcases hj with e | e | e <;> rw [e] <;> exact w3.1 _ rfl q)
    have hP3 : CPo (plP s' r sz) pg1 fl1 [] nr wd pgs σ3 := g1.fr (fun q _ => w3.1 103 rfl q) (fun j hj q => by rcases hj with e | e | e | e | e | e | e <;> rw [e] <;> exact w3.1 _ rfl q)
    have hm3 : ∀ q, (q < to ∨ to + sz ≤ q) → rd σ3 104 q = rd σ2 104 q ∧ rd σ3 105 q = rd σ2 105 q := fun q hq => by rw [e3, wr_nek (by decide), wr_nei (by omega), wr_nei (by omega), wr_nek (by decide)]; exact ⟨rfl, rfl⟩
    have hHp3 : CHp D X n pl1 (plP s' r sz) pg1 wd σ3 := by
      refine ⟨fun o ho => ⟨(g3.1 o ho).1, (g3.1 o ho).2.cong (fun j hj => hm3 _ ?_) (fun _ _ _ => rfl)⟩, g3.2⟩
      have := g4.2.2 o ho
      have hsz' := (hH.2.2 o ho).1.sz
      omega
    have hF3 : CMf rg X bk i σ3 := hF1.fr (fun q _ => h117 q) (fun j hj q => by rcases hj with e | e | e | e | e <;> rw [e] <;> exact w13.1 _ rfl q)
    obtain ⟨σ4, u1, u6, u7, u8, c1, c2, c3, c4, c5, c6⟩ := ccau_loop (L := L) (xs := xs) (c := a + 2) (C := cd.cg j0) (i := i) (sz := sz) hRS3 hU hH hP3 (fun r hr => (hok'.2.2.2 r hr).2) hS3 hHp3 g4 hF3.1.1 (by omega) hj hj2 rfl hvs (by omega) hto (by omega) hl (fun j w hw => by
      obtain ⟨z1, z2⟩ := hv j w hw
      refine ⟨?_, z2⟩
      have e95 : rd σ3 95 = rd σ 95 := by funext q; rw [w13.1 95 rfl, w1.1 95 rfl]
      rw [e95]; exact z1) (d + 7) (cd.cg j0).length 0 σ3 (dj (.int (i32 (k : Int)))) (dj (dj (dj (dj (dj jv))))) (dj (dj (dj (dj (dj jv))))) (dj (dj (dj (dj (dj jv))))) (by omega) frW.refl (by rw [h117, h1, wr_self]) (fun _ _ => rfl) (fun _ _ => ⟨rfl, rfl⟩) (fun q w hq => by omega)
    have hF4 : CMf rg X bk i σ4 := hF3.fr (fun q hq => c4 q (by omega)) (fun j hj q => by rcases hj with e | e | e | e | e <;> rw [e] <;> exact c2.1 _ rfl q)
    have hRS4 := hRS3.fr c2 rfl
    obtain ⟨σ5, y1, y5, y6, y7, y8, d1, d2, d3, d4⟩ := ckep_loop (L := L) (xs := xs) (kl := rg.kp j0) (b0 := to + 1 + (cd.cg j0).length) hRS4 hF4 hf hnK hj hj2 rfl hkl hkp (by omega) (i32 (to : Int)) (d + 8) (rg.kp j0).length 0 σ4 u1 u6 u7 u8 (by omega) frW.refl (fun _ _ => ⟨rfl, rfl⟩) (fun q hq => by omega)
    have w25 : frW [104, 105, 117] σ2 σ5 := ((w3.sub rfl).trans c2).trans (d2.sub rfl)
    have hS5 : CSt n X.sv pl1 σ5 := g2.fr (fun j hj q => by rcases hj with e | e | e <;> rw [e] <;> exact w25.1 _ rfl q)
    have hP5 : CPo (plP s' r sz) pg1 fl1 [] nr wd pgs σ5 := g1.fr (fun q _ => w25.1 103 rfl q) (fun j hj q => by rcases hj with e | e | e | e | e | e | e <;> rw [e] <;> exact w25.1 _ rfl q)
    have k117 : ∀ q, q ≠ 8 → rd σ5 117 q = rd σ1 117 q := fun q hq => by rw [d2.1 117 rfl, c4 q hq, h117]
    have hF5 : CMf rg X bk i σ5 := hF1.fr (fun q hq => k117 q (by omega)) (fun j hj q => by rcases hj with e | e | e | e | e <;> rw [e, w25.1 _ rfl, g9.1 _ rfl])
    have hM5 : CMc fn X.B (X.no + 1) st ev nr σ5 := by
      obtain ⟨y1, y2, y3, y4, y5, y6, y7⟩ := hM1
      exact ⟨fun r' hr' => by rw [w25.1 108 rfl, g9.1 108 rfl, w25.1 109 rfl, g9.1 109 rfl]; exact y1 r' hr', by rw [w25.1 103 rfl, g10 20 (by decide) (by decide) (by decide) (by decide) (by decide) (by decide) (by decide) (by decide)]; exact y2, y3, by rw [w25.1 103 rfl]; exact g8, by rw [k117 5 (by decide)]; exact y5, by rw [k117 6 (by decide)]; exact y6, by rw [k117 7 (by decide)]; exact y7⟩
    have h85 : rd σ5 117 8 = i32 ((a + 2 + 2 * (cd.cg j0).length : Nat) : Int) := by rw [d2.1 117 rfl]; exact c3
    have hd : rn L xs (d + 10) 269 0 [.ref 117, jv, jv, jv, jv, jv, jv, jv, jv] [] σ = rn L xs (d + 10) 269 241 [.ref 117, y1, .int (i32 (j0 : Int)), .int (i32 (to : Int)), .int (i32 ((to + 1 + (cd.cg j0).length : Nat) : Int)), y5, y6, y7, y8] [] σ5 := by
      have c1 : rn L xs (d + 10) 269 50 [.ref 117, dj (.int (i32 (k : Int))), .int (i32 (j0 : Int)), .int (i32 (to : Int)), .int (i32 ((to + 1 + 0 : Nat) : Int)), .int 0, dj (dj (dj (dj (dj jv)))), dj (dj (dj (dj (dj jv)))), dj (dj (dj (dj (dj jv))))] [] σ3 = rn L xs (d + 10) 269 184 [.ref 117, u1, .int (i32 (j0 : Int)), .int (i32 (to : Int)), .int (i32 ((to + 1 + (cd.cg j0).length : Nat) : Int)), .int (i32 ((cd.cg j0).length : Int)), u6, u7, u8] [] σ4 := c1
      have d1 : rn L xs (d + 10) 269 187 [.ref 117, u1, .int (i32 (j0 : Int)), .int (i32 (to : Int)), .int (i32 ((to + 1 + (cd.cg j0).length : Nat) : Int)), .int 0, u6, u7, u8] [] σ4 = rn L xs (d + 10) 269 241 [.ref 117, y1, .int (i32 (j0 : Int)), .int (i32 (to : Int)), .int (i32 ((to + 1 + (cd.cg j0).length : Nat) : Int)), y5, y6, y7, y8] [] σ5 := d1
      rw [head _ b2, bI_ok rfl, c2_ne (by omega) (by omega) (by omega) (by omega), c_t (by omega), e269_30 (d + 9), e2j, bV_ok p3, i32_up]
      rw [Nat.add_zero] at c1
      rw [c1, e269_184, d1]
    have wS : frW RCr σ σ5 := ((w1.sub rfl).trans (g9.sub rfl)).trans (w25.sub rfl)
    by_cases c4000 : n = 4000
    · obtain ⟨σ6, z1, z2, z3⟩ := vpush_full (L := L) (xs := xs) (st := st) (s := plP s' r sz) (B := X.B) (no := X.no + 1) (pgs := pgs) (wd := wd) (ev := ev) hS5 c4000 (i32 (to : Int)) 2 (d + 6) (cend_c hP5 hM5 hp1 (d + 6))
      refine .inr (.inl ⟨s', σ6, c4000, b1, ?_, z2, wS.trans (z3.sub rfl)⟩)
      rw [hd, e269_241 (d + 9), bV_ok z1]
    · have eX1 : X'.hp = uq X.hp (X.no + 1) x := by rw [hX']; rfl
      have eX2 : X'.no = X.no + 1 := by rw [hX']; rfl
      have eX5 : X'.sv = uq X.sv n (2, i32 ((X.no + 1 : Nat) : Int)) := by rw [hX']; rfl
      have xco : x.co = vs := by rw [hx]; rfl
      have xkp : x.kp = (rg.kp j0).map (fun k => (X.aR i k, X.ser (X.aR i k))) := by rw [hx]; rfl
      have xkd : x.kd = 3 := by rw [hx]; rfl
      have xpt : x.pt = p := by rw [hx]; rfl
      have xkl : x.kp.length = (rg.kp j0).length := by rw [xkp, List.length_map]
      have xcl : x.co.length = (cd.cg j0).length := by rw [xco, hvs]
      have hxsz : szO x = sz := by unfold szO; rw [if_pos xkd, xcl, xkl, hsz]
      have hkpm : ∀ (t r' s'' : Nat), x.kp[t]? = some (r', s'') → t < (rg.kp j0).length ∧ X.aR i ((rg.kp j0).getD t 0) = r' := fun t r' s'' hs => by
        rw [xkp, List.getElem?_map] at hs
        have ht : t < (rg.kp j0).length := by
          apply Classical.byContradiction
          intro q
          rw [List.getElem?_eq_none (by omega)] at hs
          cases hs
        rw [List.getElem?_eq_getElem ht] at hs
        have hs : (X.aR i ((rg.kp j0)[t]), X.ser (X.aR i ((rg.kp j0)[t]))) = (r', s'') := Option.some.inj hs
        have e2 : (rg.kp j0).getD t 0 = (rg.kp j0)[t] := by rw [List.getD_eq_getElem?_getD, List.getElem?_eq_getElem ht]; rfl
        exact ⟨ht, by rw [e2]; exact congrArg Prod.fst hs⟩
      have hWx : WFo D rg cd x := ⟨by omega, fun e => absurd xkd e, fun _ => by rw [xpt, hvl]; exact ⟨xcl, xkl, hj2⟩, by rw [xcl, xkl]; exact hlen, fun w hw => by
        rw [xco] at hw
        obtain ⟨j, hj⟩ := List.mem_iff_getElem?.mp hw
        exact (hv j w hj).2, fun r' s'' hr' => by
        obtain ⟨t, ht⟩ := List.mem_iff_getElem?.mp hr'
        obtain ⟨t1, t2⟩ := hkpm t r' s'' ht
        rw [← t2]; exact (hkp t t1).2.2⟩
      have hcoV : ∀ w, w ∈ x.co → VOK X.no w ∧ ∀ o, ROb X.hp X.no w o → RCO X n o := fun w hw => by
        rw [xco] at hw
        obtain ⟨j, hj⟩ := List.mem_iff_getElem?.mp hw
        rcases (hv j w hj).1 with ⟨_, q, _, k2, k3⟩ | ⟨_, q, o, _, g3, g4, g5, g6, g7⟩
        · rw [k3]; exact ⟨hU.2.2.1 _ k2, fun o h => ⟨_, k2, h⟩⟩
        · have hm := List.mem_of_getElem? g7
          exact ⟨(hU.1 o g5 g6 w hm).mono (show o - 1 ≤ X.no by omega), fun o' ⟨j', h⟩ => ⟨X.bs i, g3, j' + 1, o, w, g4, g5, g6, hm, h⟩⟩
      have hR : ∀ o, RCO X' (n + 1) o → o = X.no + 1 ∨ RCO X n o := fun o ho => RCO.new (x := x) (n := n) (by omega) hU.1 hU.2.2.1 eX1 eX2 (fun k hk => by
        rw [eX5]
        by_cases e : k = n
        · rw [e, uq_self]; exact .inl rfl
        · rw [uq_ne e]; exact .inr ⟨k, by omega, rfl⟩) hcoV ho
      have hm5 : ∀ q, (q < to ∨ to + sz ≤ q) → rd σ5 104 q = rd σ2 104 q ∧ rd σ5 105 q = rd σ2 105 q := fun q hq => by
        obtain ⟨z1, z2⟩ := d3 q (by omega)
        obtain ⟨z3, z4⟩ := c5 q (by omega)
        rw [z1, z2, z3, z4]; exact hm3 q hq
      have hxw : CObw D (fun _ v => cwd pl1 v) x to σ5 := by
        refine ⟨⟨?_, ?_⟩, fun t v hv' => ?_, fun t r' s'' ht => ?_⟩
        · rw [(d3 to (by omega)).1, (c5 to (by omega)).1, e3, wr_nek (by decide), wr_self]
          unfold hdO
          rw [if_neg (by omega), if_neg (by omega), xpt, hvl]
        · rw [(d3 to (by omega)).2, (c5 to (by omega)).2, e3, wr_self]; rfl
        · rw [xco] at hv'
          have ht := (List.getElem?_eq_some_iff.mp hv').1
          rw [(d3 (to + 1 + t) (by omega)).1, (d3 (to + 1 + t) (by omega)).2]; exact c6 t v hv'
        · obtain ⟨t1, t2⟩ := hkpm t r' s'' ht
          rw [xcl, ← t2]; exact d4 t t1
      have hH5 := CHp.new (X' := X') (n' := n + 1) g3 g4 hno hU.1 (fun o ho => (hH.2.2 o ho).1) hWx hxsz (by rw [hx]; rfl) (fun w hw => (hcoV w hw).1) hm5 hxw eX1 hR
      have hS5' : CSt n X.sv (uq pl1 (X.no + 1) to) σ5 := hS5.place (fun _ _ => rfl) (fun k hk => cwd_new (by omega) (hU.2.2.1 k hk))
      obtain ⟨σ6, z1, z2, z3⟩ := vpush_c (L := L) (xs := xs) (v := (2, i32 ((X.no + 1 : Nat) : Int))) hS5' (by omega) (by show 2 ≤ 2; omega) (d + 7)
      rw [cwd_self (by omega)] at z1
      have z1 : rn L xs (d + 9) 263 0 [.ref 117, .int (i32 (to : Int)), .int 2] [] σ5 = some (.inl none, σ6) := z1
      refine .inl ⟨s', σ6, uq pl1 (X.no + 1) to, pg1, fl1, by omega, b1, ?_, ⟨hP5.fr (fun q _ => z3.1 103 rfl q) (fun j hj q => by rcases hj with e | e | e | e | e | e | e <;> rw [e] <;> exact z3.1 _ rfl q), by rw [eX5]; exact z2, hH5.fr (fun q => ⟨z3.1 104 rfl q, z3.1 105 rfl q⟩), by rw [eX2]; exact hok'⟩, (hF5.fr (σ' := σ6) (fun q _ => z3.1 117 rfl q) (fun j hj q => by rcases hj with e | e | e | e | e <;> rw [e] <;> exact z3.1 _ rfl q)).same (by rw [hX']; rfl) (by rw [hX']; rfl), hM5.fr (fun q _ => z3.1 103 rfl q) (fun q _ => z3.1 117 rfl q) (fun j hj q => by rcases hj with e | e <;> rw [e] <;> exact z3.1 _ rfl q), by rw [z3.1 117 rfl]; exact h85, wS.trans (z3.sub rfl)⟩
      rw [hd, e269_241 (d + 9), bV_ok z1]
  · refine .inr (.inr ⟨c, s', σ2, b1, ?_, b3, b4, (w1.sub rfl).trans b5⟩)
    rw [head _ b2, bI_ok rfl, c2_ne (by omega) (by omega) (by omega) (by omega), c_f (by omega)]
end CCLO2
