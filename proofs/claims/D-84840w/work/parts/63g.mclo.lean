/-! RUNS, MODEL: a closure is made -/
section MCLO
variable {L : Nat} {xs : Nat → Int32} {τ τ' τ0 τ1 : tvS} {D : pgD} {rg : rgD} {cd : cdD} {vd : Nat → Nat} {N m : Nat} {G : tG} {rr : Nat → Nat} {X X' : dyD} {n nr i st mt wd pgs ev fil f p r Nq sz : Nat} {s : cSt} {fn : Nat → Nat × Nat} {oa : Nat → Nat} {x : obD} {A : alD} {cs : List vaL}
theorem oSt.pl {no : Nat} (h : oSt s nr wd pgs no) (hr : r < nr) (hu : (s.R r).2.2 + sz ≤ wd) : oSt (plP s r sz) nr wd pgs (no + 1) := by
  obtain ⟨z1, z2, z3, z4⟩ := h
  have eR : (plP s r sz).R r = ((s.R r).1 + 1, (s.R r).2.1, (s.R r).2.2 + sz) := uq_self
  refine ⟨z1, z2, ?_, fun q hq => ?_⟩
  · have : sumF (fun q => (uq s.R r ((s.R r).1 + 1, (s.R r).2.1, (s.R r).2.2 + sz) q).2.1) 0 nr + (s.R r).2.1 = sumF (fun q => (s.R q).2.1) 0 nr + (s.R r).2.1 := sum_uq (R := s.R) (q := r) (z := ((s.R r).1 + 1, (s.R r).2.1, (s.R r).2.2 + sz)) nr hr
    show sumF (fun q => (uq s.R r ((s.R r).1 + 1, (s.R r).2.1, (s.R r).2.2 + sz) q).2.1) 0 nr = s.U
    omega
  · have := z4 q hq
    by_cases e : q = r
    · rw [e, eR]; exact ⟨by have := (z4 r hr).1; show (s.R r).1 + 1 ≤ _; omega, hu⟩
    · rw [show (plP s r sz).R q = s.R q from uq_ne e]; exact ⟨by omega, this.2⟩
theorem clo_m (hRS : RSm D rg cd vd N G rr τ) (hPG : PGF D m) (hF : MFr X i τ) (hM : MSk fn s X n nr st oa fil mt pgs wd ev τ) (hf : X.ff i = f) (hfc : f ≤ D.fc) (h1 : D.bP f ≤ p) (h2 : p < D.bP (f + 1)) (hk : D.K p = 17) (hnu : rg.nu p 0 < 64) (hr : X.aR i (rg.nu p 0) = r) (hrn : r < nr) (hU : PUH X n nr wd Nq A) (hev : ev ≤ 10000) (hpg : pgs ≤ 400) (h200 : H200 D rg cd X) (hcap : tdS X n (X.no + 1) ≤ 51200) (hmt : mt + 3 < 2147483648) (hB : X.ser r < 10000000)
    (hlen : (cd.cg (D.vl p)).length + (rg.kp (D.vl p)).length ≤ 100) (hkl : (rg.kp (D.vl p)).length ≤ 60) (hcl : ∀ j, j < (cd.cg (D.vl p)).length → (cd.cg (D.vl p)).getD j 0 < D.tV (D.fc + 1)) (hcs : cs.length = (cd.cg (D.vl p)).length) (hv : ∀ j w, cs[j]? = some w → LKv X i n (vd ((cd.cg (D.vl p)).getD j 0)) w) (hkp : ∀ j, j < (rg.kp (D.vl p)).length → (rg.kp (D.vl p)).getD j 0 < 64 ∧ X.aR i ((rg.kp (D.vl p)).getD j 0) < 2000)
    (hx : x = ((3, p), (r, X.ser r), cs, (rg.kp (D.vl p)).map (fun k => (X.aR i k, X.ser (X.aR i k))))) (hsz : sz = 1 + (cd.cg (D.vl p)).length + (rg.kp (D.vl p)).length) (hX' : X' = (uq X.sv n (2, i32 ((X.no + 1 : Nat) : Int)), (uq X.hp (X.no + 1) x, X.no + 1, X.B), X.2.2)) (d : Nat) :
    (∃ (s' : cSt) (τ' : tvS) (oa' : Nat → Nat) (fil' mt' : Nat), n < 4000 ∧ putP A Nq wd pgs ev X.no s r sz = .inl (plP s' r sz) ∧ rn L xs (d + 5) 421 0 [.ref 123, .int (i32 (p : Int)), jv, jv, jv] [] τ = some (.inl none, τ') ∧ mt' ≤ mt + 3 ∧ MSk fn (plP s' r sz) X' (n + 1) nr st oa' fil' mt' pgs wd ev τ' ∧ RSm D rg cd vd N G rr τ' ∧ frM (169 :: 207 :: 208 :: FPT) (132 :: 167 :: 168 :: FPF) τ τ') ∨
    (∃ (s' : cSt) (τ' : tvS) (mt' : Nat), n = 4000 ∧ putP A Nq wd pgs ev X.no s r sz = .inl (plP s' r sz) ∧ rn L xs (d + 5) 421 0 [.ref 123, .int (i32 (p : Int)), jv, jv, jv] [] τ = some (.inl none, τ') ∧ mt' ≤ mt + 3 ∧ MVR st 4 (plP s' r sz) X.B (X.no + 1) mt' τ' ∧ frM RAr RFl τ τ' ∧ RSm D rg cd vd N G rr τ') ∨
    (∃ (c : Nat) (s' : cSt) (τ' : tvS) (mt' : Nat), putP A Nq wd pgs ev X.no s r sz = .inr (c, s') ∧ rn L xs (d + 5) 421 0 [.ref 123, .int (i32 (p : Int)), jv, jv, jv] [] τ = some (.inl none, τ') ∧ mt' ≤ mt + 3 ∧ MVR st c s' X.B X.no mt' τ' ∧ frM RAr RFl τ τ' ∧ RSm D rg cd vd N G rr τ') := by
  have hno : X.no < 30000 := hU.2.2.2.2.1
  have hnr2 : nr ≤ 2000 := hM.2.2.1.1.2.1
  have hn4 := hM.1.2.1
  have hbl := hPG.1
  have hble := (hPG.le (D.fc + 1 - (f + 1)) (f + 1) (by omega)).1
  obtain ⟨cf, kf, p1, p2, p3, p4, p5, p6, p7, p8⟩ := (hRS.2.2.2.2 f p hfc h1 h2).2.2 hk
  obtain ⟨τ1, a1, a2, a3⟩ := regof_m (L := L) (xs := xs) hRS hPG hF hf hfc h1 h2 (by omega) hnu hr (by omega) (d + 1)
  have hM1 := hM.fr169 a3
  have esz : (1 + i32 ((cd.cg (D.vl p)).length : Int)) + i32 ((rg.kp (D.vl p)).length : Int) = i32 (sz : Int) := by rw [show (1 : Int32) = i32 1 from rfl, i32_add, i32_add, hsz]; congr 1
  have head : rn L xs (d + 5) 421 0 [.ref 123, .int (i32 (p : Int)), jv, jv, jv] [] τ = bI (rn L xs (d + 4) 402 0 [.ref 123, .int 3, .int (i32 (p : Int)), .int (i32 (r : Int)), .int (i32 (sz : Int))] [] τ1) (fun a4 s3 => cond (pv_c1 .ne a4) (rn L xs (d + 5) 421 34 [.ref 123, .int (i32 (p : Int)), .int (i32 (sz : Int)), .int a4, (dj (dj jv))] [] s3) (some (.inl none, s3))) X0 := by
    rw [e421_0 (d + 4), c_in (by omega) (by omega) (by omega), c_in (by omega) (by omega) (by omega), bI_ok a1, i32_ixn (by omega), p4, p7, esz]
  rcases make_m (L := L) (xs := xs) (kind := 3) (part := p) (r := r) (sz := sz) hU hM1 hrn (by omega) hev hpg (h200.row a2) hcap hmt d with ⟨s', τ2, oa', fil', mt', b1, b2, b3, b4, b5, b6, b7, b8, b9, b10, b11, b12, b13⟩ | ⟨c, s', τ2, mt', b1, b2, b3, b4⟩
  · obtain ⟨m1, m2, m3, m4, m5, m6, m7, m8, m9⟩ := b10
    have w02 : frM (169 :: FPT) FPF τ τ2 := (a3.sub rfl rfl).trans (b13.sub rfl rfl)
    have hF2 : MFr X i τ2 := hF.fr w02 rfl rfl rfl rfl rfl rfl
    have hRS2 : RSm D rg cd vd N G rr τ2 := a2.fr b13 rfl rfl rfl
    have hrow : ∀ j w, cs[j]? = some w → LKr X i (vd ((cd.cg (D.vl p)).getD j 0)) w fil' τ2 := fun j w hw => (hv j w hw).row b5 (fun o o1 o2 => (b11.2.2.1 o o1 o2).2.1) (by omega) b11.2.2.2.1
    obtain ⟨τ3, v3', c1, c2, c3, c4, c5⟩ := caught_loop (L := L) (xs := xs) (fil0 := fil') (cs := cs) (vd := vd) (p := p) hF2 (by omega) (by omega) p1 (by rw [w02.rd (j := 196) rfl]; exact p3) (by rw [w02.rd (j := 197) rfl]; exact p4) (fun j hj => by rw [w02.rd (j := 198) rfl]; exact p5 j hj) (fun j hj => by
      have := hcl j hj
      obtain ⟨g1, g2⟩ := hRS2.2.2.2.1 _ this
      exact ⟨by omega, g1, g2⟩) hcs hrow b4 (i32 ((X.no + 1 : Nat) : Int)) (d + 3) (cd.cg (D.vl p)).length 0 τ2 (.int (i32 (sz : Int))) (by omega) frM.refl b11.1 (fun _ _ => ⟨rfl, rfl⟩) (fun q w hq => by omega)
    obtain ⟨τ4, e4⟩ : ∃ τ4, τ4 = wr τ3 231 (X.no + 1) (i32 ((cd.cg (D.vl p)).length : Int)) := ⟨_, rfl⟩
    have w34 : frM [231] [] τ3 τ4 := by rw [e4]; exact frM_wr rfl (by decide)
    have w24 : frM [231, 234, 235] [164, 167, 168] τ2 τ4 := (c2.sub rfl rfl).trans (w34.sub rfl rfl)
    have hF4 : MFr X i τ4 := hF2.fr w24 rfl rfl rfl rfl rfl rfl
    have w04 : frM (169 :: FPT) (167 :: 168 :: FPF) τ τ4 := (w02.sub rfl rfl).trans (w24.sub rfl rfl)
    obtain ⟨τ5, v5', d1, d2, d3, d4, d5⟩ := kept_loop (L := L) (xs := xs) (fil0 := fil' + (cd.cg (D.vl p)).length) (kl := rg.kp (D.vl p)) (p := p) hF4 (by omega) hkl p2 (by rw [w04.rd (j := 199) rfl]; exact p6) (by rw [w04.rd (j := 200) rfl]; exact p7) (fun j hj => by rw [w04.rd (j := 201) rfl]; exact p8 j hj) hkp (by omega) (i32 ((X.no + 1 : Nat) : Int)) (d + 3) (rg.kp (D.vl p)).length 0 τ4 v3' (by omega) frM.refl (by rw [w34.2 164 rfl]; exact c3) (fun _ _ => ⟨rfl, rfl⟩) (fun q hq => by omega)
    have w45 : frM [231, 234, 235] [164, 167, 168] τ4 τ5 := d2.sub rfl rfl
    have w25 : frM [231, 234, 235] [164, 167, 168] τ2 τ5 := w24.trans w45
    have hS5 : MSt n X.sv τ5 := b5.fr w25 rfl rfl rfl
    have hd : rn L xs (d + 5) 421 0 [.ref 123, .int (i32 (p : Int)), jv, jv, jv] [] τ = rn L xs (d + 5) 421 148 [.ref 123, .int (i32 (p : Int)), v5', .int (i32 ((X.no + 1 : Nat) : Int)), .int (i32 ((rg.kp (D.vl p)).length : Int))] [] τ5 := by
      have b2 : rn L xs (d + 4) 402 0 [.ref 123, .int 3, .int (i32 (p : Int)), .int (i32 (r : Int)), .int (i32 (sz : Int))] [] τ1 = some (.inl (some (.int (i32 ((X.no + 1 : Nat) : Int)))), τ2) := b2
      have c1 : rn L xs (d + 5) 421 37 [.ref 123, .int (i32 (p : Int)), .int (i32 (sz : Int)), .int (i32 ((X.no + 1 : Nat) : Int)), .int 0] [] τ2 = rn L xs (d + 5) 421 84 [.ref 123, .int (i32 (p : Int)), v3', .int (i32 ((X.no + 1 : Nat) : Int)), .int (i32 ((cd.cg (D.vl p)).length : Int))] [] τ3 := c1
      have d1 : rn L xs (d + 5) 421 99 [.ref 123, .int (i32 (p : Int)), v3', .int (i32 ((X.no + 1 : Nat) : Int)), .int 0] [] τ4 = rn L xs (d + 5) 421 148 [.ref 123, .int (i32 (p : Int)), v5', .int (i32 ((X.no + 1 : Nat) : Int)), .int (i32 ((rg.kp (D.vl p)).length : Int))] [] τ5 := d1
      rw [head, bI_ok b2, c1_ne (by omega) (by omega), c_t (by omega), e421_34, c1, e421_84, c_in (by omega) (by omega) (by omega), c_in (by omega) (by omega) (by omega), i32_ixn (by omega), i32_ixn (by omega), c2.rd (j := 197) rfl, w02.rd (j := 197) rfl, p4, ← e4, d1]
    have xco : x.co = cs := by rw [hx]; rfl
    have xkp : x.kp = (rg.kp (D.vl p)).map (fun k => (X.aR i k, X.ser (X.aR i k))) := by rw [hx]; rfl
    have xkl : x.kp.length = (rg.kp (D.vl p)).length := by rw [xkp, List.length_map]
    have xcl : x.co.length = (cd.cg (D.vl p)).length := by rw [xco, hcs]
    have hxsz : szO x = sz := by unfold szO; rw [if_pos (by rw [hx]; rfl), xcl, xkl, hsz]
    by_cases c4000 : n = 4000
    · obtain ⟨τ6, f1, f2⟩ := value_full (L := L) (xs := xs) hS5 c4000 2 (i32 ((X.no + 1 : Nat) : Int)) (d + 2)
      obtain ⟨g1, g2⟩ := f2.over (s := plP s' r sz) (B := X.B) (st := st) (no := X.no + 1) (mt := mt') (frM.refl (S := RAr) (F := RFl)) rfl rfl (b6.2.fr w25 ⟨rfl, rfl, rfl, rfl, rfl, rfl, rfl, rfl⟩) (by rw [w25.2 124 rfl]; exact m1) (by rw [w25.2 162 rfl]; exact b12.1)
      refine .inr (.inl ⟨s', τ6, mt', c4000, b1, ?_, b3, g1, ((w02.sub rfl rfl).trans (w25.sub rfl rfl)).trans g2, hRS2.men w25 rfl rfl rfl f2⟩)
      rw [hd, e421_148 (d + 4), bI_ok f1]
    · obtain ⟨τ6, f1, f2, f3⟩ := value_m (L := L) (xs := xs) hS5 (by omega) (2, i32 ((X.no + 1 : Nat) : Int)) (d + 3)
      have f1 : rn L xs (d + 4) 413 0 [.ref 123, .int 2, .int (i32 ((X.no + 1 : Nat) : Int))] [] τ5 = some (.inl (some (.int 1)), τ6) := f1
      have w26 : frM [207, 208, 231, 234, 235] [132, 164, 167, 168] τ2 τ6 := (w25.sub rfl rfl).trans (f3.sub rfl rfl)
      have eX1 : X'.hp = uq X.hp (X.no + 1) x := by rw [hX']; rfl
      have eX2 : X'.no = X.no + 1 := by rw [hX']; rfl
      have eX3 : X'.B = X.B := by rw [hX']; rfl
      have eX4 : X'.ser = X.ser := by rw [hX']; rfl
      have eX5 : X'.sv = uq X.sv n (2, i32 ((X.no + 1 : Nat) : Int)) := by rw [hX']; rfl
      have hcoV : ∀ w, w ∈ cs → VOK X.no w ∧ ∀ o, ROb X.hp X.no w o → RCO X n o := fun w hw => by
        obtain ⟨j, hj⟩ := List.mem_iff_getElem?.mp hw
        rcases hv j w hj with ⟨k, _, k2, k3⟩ | ⟨c, o, _, _, g3, g4, g5, g6, g7⟩
        · rw [k3]; exact ⟨hU.2.2.1 k k2, fun o h => ⟨k, k2, h⟩⟩
        · have hm := List.mem_of_getElem? g7
          have hvo := (hU.1 o g5 g6 w hm).mono (show o - 1 ≤ X.no by omega)
          refine ⟨hvo, fun o' ⟨j', h⟩ => ⟨X.bs i, g3, j' + 1, o, w, g4, g5, g6, hm, h⟩⟩
      have hR : ∀ o, RCO X' (n + 1) o → o = X.no + 1 ∨ RCO X n o := fun o ho => RCO.new (x := x) (n := n) (by omega) hU.1 hU.2.2.1 eX1 eX2 (fun k hk => by
        rw [eX5]
        by_cases e : k = n
        · rw [e, uq_self]; exact .inl rfl
        · rw [uq_ne e]; exact .inr ⟨k, by omega, rfl⟩) (fun w hw => hcoV w (by rw [← xco]; exact hw)) ho
      have k231 : ∀ j o, o ≠ X.no + 1 → j = 225 ∨ j = 226 ∨ j = 227 ∨ j = 228 ∨ j = 229 ∨ j = 230 ∨ j = 231 → rd τ6 j o = rd τ2 j o := fun j o ho hj => by
        rcases hj with e | e | e | e | e | e | e <;> rw [e]
        · exact w26.rd rfl o
        · exact w26.rd rfl o
        · exact w26.rd rfl o
        · exact w26.rd rfl o
        · exact w26.rd rfl o
        · exact w26.rd rfl o
        · rw [f3.rd (j := 231) rfl, d2.rd (j := 231) rfl, e4, wr_nei ho, c2.rd (j := 231) rfl]
      have q234 : ∀ k, k < fil' + (cd.cg (D.vl p)).length → rd τ6 234 k = rd τ3 234 k ∧ rd τ6 235 k = rd τ3 235 k := fun k hk => by
        rw [f3.rd (j := 234) rfl, f3.rd (j := 235) rfl, (d4 k hk).1, (d4 k hk).2, w34.rd (j := 234) rfl, w34.rd (j := 235) rfl]; exact ⟨rfl, rfl⟩
      have hMO : MOb X' (n + 1) (uq oa' (X.no + 1) fil') (fil' + x.co.length + x.kp.length) τ6 := by
        refine MOb.made (x := x) b11 (by rw [w26.2 124 rfl]; exact m1) (by rw [f3.2 164 rfl, d3, xcl, xkl]) b4 (by rw [xcl, xkl]; exact hlen) (by rw [hx]; exact hB) (by rw [hx]; show p < 5000; omega) (fun j hj o ho => k231 j o ho hj) (fun k hk => ?_) ⟨?_, ?_, ?_, ?_, ?_, ?_⟩ ⟨?_, ?_, ?_⟩ eX1 eX2 hR
        · rw [(q234 k (by omega)).1, (q234 k (by omega)).2]; exact c4 k hk
        · rw [w26.rd (j := 225) rfl, m2, hx]; rfl
        · rw [w26.rd (j := 226) rfl, m6, hxsz]
        · rw [w26.rd (j := 227) rfl, m4, hx]; rfl
        · rw [w26.rd (j := 228) rfl, m5, hx]; rfl
        · rw [w26.rd (j := 229) rfl, m3, hx]; rfl
        · rw [f3.rd (j := 231) rfl, d2.rd (j := 231) rfl, e4, wr_self, xcl]
        · rw [w26.rd (j := 230) rfl, m7]
        · intro t v hv'
          rw [xco] at hv'
          have ht := (List.getElem?_eq_some_iff.mp hv').1
          rw [(q234 (fil' + t) (by omega)).1, (q234 (fil' + t) (by omega)).2]; exact c5 t v hv'
        · intro t r' s'' hs
          rw [xkp] at hs
          rw [List.getElem?_map] at hs
          have ht : t < (rg.kp (D.vl p)).length := by
            apply Classical.byContradiction
            intro q
            rw [List.getElem?_eq_none (by omega)] at hs
            cases hs
          rw [List.getElem?_eq_getElem ht] at hs
          have hs : (X.aR i ((rg.kp (D.vl p))[t]), X.ser (X.aR i ((rg.kp (D.vl p))[t]))) = (r', s'') := Option.some.inj hs
          have e1 : X.aR i ((rg.kp (D.vl p))[t]) = r' := congrArg Prod.fst hs
          have e2 : (rg.kp (D.vl p)).getD t 0 = (rg.kp (D.vl p))[t] := by rw [List.getD_eq_getElem?_getD, List.getElem?_eq_getElem ht]; rfl
          rw [f3.rd (j := 235) rfl, xcl, d5 t ht, e2, e1]
      have w06 : frM (169 :: 207 :: 208 :: FPT) (132 :: 167 :: 168 :: FPF) τ τ6 := (w02.sub rfl rfl).trans (w26.sub rfl rfl)
      refine .inl ⟨s', τ6, _, _, mt', by omega, b1, ?_, b3, ⟨by rw [eX5]; exact f2, hMO, ?_, ?_, ?_, b8, ?_, ?_, ?_⟩, hRS2.fr w26 rfl rfl rfl, w06⟩
      · rw [hd, e421_148 (d + 4), bI_ok f1]
      · rw [eX3, eX4]
        exact b6.fr w26 ⟨rfl, rfl, rfl, rfl, rfl, rfl⟩ ⟨rfl, rfl, rfl, rfl, rfl, rfl, rfl, rfl, rfl⟩
      · rw [eX2]; exact b12.fr w26 rfl rfl
      · rw [eX2]; exact b7.pl hrn b9
      · rw [w06.2 119 rfl]; exact hM.2.2.2.2.2.2.1
      · rw [w06.2 120 rfl]; exact hM.2.2.2.2.2.2.2.1
      · rw [w06.2 121 rfl]; exact hM.2.2.2.2.2.2.2.2
  · have hno1 : rd τ1 123 124 = i32 (X.no : Int) := hM1.2.1.1
    obtain ⟨g1, g2⟩ := b4.over rfl rfl (fun τ' w _ => by rw [w.2 124 rfl]; exact hno1)
    refine .inr (.inr ⟨c, s', τ2, mt', b1, ?_, b3, g1, (a3.sub rfl rfl).trans g2, a2.mov b4 rfl rfl rfl⟩)
    have b2 : rn L xs (d + 4) 402 0 [.ref 123, .int 3, .int (i32 (p : Int)), .int (i32 (r : Int)), .int (i32 (sz : Int))] [] τ1 = some (.inl (some (.int 0)), τ2) := b2
    rw [head, bI_ok b2]; rfl
end MCLO
