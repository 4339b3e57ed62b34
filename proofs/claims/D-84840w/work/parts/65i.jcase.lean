/-! RUNS, BOTH: bound values, choices by lists -/
section JLET
variable {L : Nat} {xs : Nat → Int32} {σ σ' σ1 τ τ' τ1 : tvS} {D : pgD} {m : Nat} {rg : rgD} {cd : cdD} {T : tsD} {vd W : Nat → Nat} {M wd pgs ev N : Nat} {G : tG} {rr : Nat → Nat} {R : Nat → Int32} {cs : Nat} {X X' : dyD} {K K' : List (Nat × Nat × Nat)} {i : Nat} {E : Nat → trE} {n n' : Nat} {ty ty' : Nat → trE} {nr nr' : Nat} {av : Nat → Prop} {Lv dd st w p b a κ q c j k : Nat} {fn fn' : Nat → Nat × Nat} {s s' : cSt} {oa : Nat → Nat} {fil mt : Nat} {pl : Nat → Nat} {pg : Nat → List Nat} {fl : List Nat} {bk : Nat → Nat} {d M0 : Nat} {x : obD} {t : trE}
theorem PGF.vb {f v : Nat} (hF : PGF D m) (hf : f ≤ D.fc) (h1 : D.bP f ≤ p) (h2 : p < D.bP (f + 1)) (hv : v ∈ D.bd p) : v < D.tV (D.fc + 1) ∧ v < 3000 := by
  have hp := ((hF.2.2 f hf).2.2.1 p h1 h2).2.2.2.2.2.2.2 v hv
  obtain ⟨_, q1, _⟩ := hF.le (D.fc + 1 - (f + 1)) (f + 1) (by omega)
  have := hF.1.2.2.2.1
  exact ⟨by omega, by omega⟩
/-- a value is bound -/
theorem J_let (hE : ENV D m rg cd T vd W M wd pgs ev) (hG : RGI D rg cd T vd W M wd X ((3, p, b) :: K) i E n ty nr av Lv dd st) (hM : RMm D rg cd vd N G rr wd pgs ev X ((3, p, b) :: K) i n nr fn s st oa fil mt τ) (hC : RMc D rg cd R cs wd pgs ev X i n nr fn s st pl pg fl bk a σ) (hA : AT D rg cd R cs X.ff bk ((3, p, b) :: K) i a n) (hmt : mt ≤ M0 + 3 * X.no ∧ s.cp ≤ M0 + 80001) :
    JST L xs d D rg cd T vd W M N G rr R cs wd pgs ev M0 st (wtK ((3, p, b) :: K)) σ τ := by
  have hkl := hG.kle hE hM.2.2.1.2.2.1
  have hkl : K.length + 1 + 20 < 130000 := hkl
  obtain ⟨_, _, hwt⟩ := hG.opt (by omega)
  obtain ⟨⟨f1, f2, f3, b1, b2⟩, hPF, hS, hV, hcon, hP, hW, o3, o4, o6⟩ := hG.on hE (by omega)
  have hκ : D.K p = 19 := by rcases hW with ⟨q, h⟩ | ⟨q, h⟩ | ⟨q, h⟩ | ⟨q, h⟩ | ⟨q, h⟩ | ⟨q, h⟩ <;> omega
  obtain ⟨k0, k1, dc, y, hkd, A1, A2⟩ := hA.let_
  have hw2 : wkN D 3 p = 1 := by unfold wkN; rw [if_pos (.inr (.inl rfl))]
  rw [hw2] at o3 o6
  obtain rfl : n = Lv + 1 := o3
  obtain ⟨v, hv⟩ : ∃ v, v = D.vl p := ⟨_, rfl⟩
  obtain ⟨s0, s1⟩ := (hS.2.2.2.1 k0 k1 hkd).2.2.2.2 hκ
  obtain ⟨_, g2⟩ := hV.2.1 hκ
  rw [← hv] at s0 g2
  obtain ⟨vb, vb2⟩ := hE.1.1.vb (v := v) f1 f2 f3 (by unfold pgD.bd; rw [if_neg (by omega), if_pos hκ, ← hv]; exact List.mem_cons_self)
  have hno := hG.no_le
  have hgk : cd.hg k1 = cd.hg p + 1 := by rw [hE.1.2.1.2.1 _ p 1 k1 f1 f2 f3 (by rw [hkd]; rfl), hκ]; rfl
  have hsl : cd.sl v = cd.hg p := by rw [hv]; exact (hE.1.2.1.2.2.2 _ p f1 f2 f3).2.1 hκ
  have hdd : dd = (D.sl p).length := hP.1.2.2.2.2
  obtain ⟨X', hX⟩ : ∃ X' : dyD, X' = upV X i (vd v) ((Lv : Nat) : Int) := ⟨_, rfl⟩
  have hG' : RGI D rg cd T vd W M wd X' ((0, k1, 0) :: K) i E (Lv + 1) ty nr av Lv (D.sl k1).length st := by
    refine hG.then (X' := X') (j := 1) hE (by omega) (by rw [hkd]; rfl) s1 ?_ ?_ (fun _ _ => rfl) (fun v' hv' => ?_) (by omega) (fun e he => by rw [hX]; exact hG.2.2.1 e he) (by rw [hX]; rfl) (by rw [hX]; rfl) (by rw [hX]; rfl)
    · rw [hX]
      refine ⟨⟨hG.2.2.2.1.1, (show X.no ≤ 30001 by omega)⟩, fun _ _ => rfl, fun _ _ _ => rfl, Nat.le_refl _, Nat.le_refl _, fun _ _ => rfl, fun _ _ => rfl, fun _ _ _ => rfl, fun _ _ => rfl, fun j e hj => ?_, fun e he => ?_⟩
      · show (if j = i ∧ e = vd v then _ else X.aV j e) = _; rw [if_neg (by omega)]
      · show (if i = i ∧ e = vd v then _ else X.aV i e) = _; rw [if_neg (by omega)]
    · rw [hX]; show Lv + 1 = X.bs i + cd.hg k1; omega
    · have e : v' = v := by
        unfold pgD.sn at hv'
        rw [if_neg (by omega), if_pos ⟨hκ, rfl⟩, ← hv] at hv'
        exact List.mem_singleton.mp hv'
      subst e
      rw [hX, hsl]
      refine ⟨?_, by omega, ?_⟩
      · show (if i = i ∧ vd v' = vd v' then _ else X.aV i (vd v')) = ((X.bs i + cd.hg p : Nat) : Int)
        rw [if_pos ⟨rfl, rfl⟩, o4]
      · show ty (X.bs i + cd.hg p) = _
        rw [o4, s0]
        exact o6 0 k0 (by omega) (by rw [hkd]; rfl)
  -- the model
  obtain ⟨m1, m2⟩ := hM.pop
  obtain ⟨τ0, e0⟩ : ∃ τ0, τ0 = wr τ 123 135 (i32 (K.length : Int)) := ⟨_, rfl⟩
  rw [← e0] at m1 m2
  have hS0 := m1.2.2.2.1.1
  have h132 : rd τ0 123 132 - 1 = i32 (Lv : Int) := by rw [hS0.1, show (1 : Int32) = i32 1 from rfl, i32_sub]; congr 1; omega
  obtain ⟨g3, g4⟩ := m1.1.2.2.2.1 v vb
  have hi := m1.2.2.1.2.2.1
  have e64 : (64 : Int32) * i32 (i : Int) + i32 (vd v : Int) = i32 ((64 * i + vd v : Nat) : Int) := by rw [show (64 : Int32) = i32 64 from rfl, i32_mul, i32_add]; congr 1
  have hRp := m1.1.2.2.1 p b1
  have e157 : rd τ0 157 p = i32 (v : Int) := by rw [hv]; exact hRp.2.2.2.1 (.inr (.inr (.inl hκ)))
  have e155 : rd τ0 155 p = i32 (k1 : Int) := by rw [hRp.2.1 (by omega) 1 (by omega), hkd]; rfl
  obtain ⟨τ1, e1⟩ : ∃ τ1, τ1 = wr τ0 212 (64 * i + vd v) (i32 (Lv : Int)) := ⟨_, rfl⟩
  have w1 : frM [212] [] τ0 τ1 := by rw [e1]; exact frM_wr rfl (by decide)
  have hF1 : MFr X' i τ1 := by rw [hX]; exact m1.2.2.1.upV g4 e1
  obtain ⟨τ2, u1, u2, u3⟩ := plan_m (L := L) (xs := xs) (m1.2.1.fr w1 rfl rfl rfl rfl) (by omega) (0, k1, 0) (d + 4)
  have u1 : rn L xs (d + 5) 397 0 [.ref 123, .int 0, .int (i32 (k1 : Int)), .int 0] [] τ1 = some (.inl none, τ2) := u1
  have w2 : frM [209, 210, 211, 212] [135] τ0 τ2 := (w1.sub rfl rfl).trans (u3.sub rfl rfl)
  have hr : rn L xs (d + 6) 399 0 [.ref 123, .int (i32 ((3 : Nat) : Int)), .int (i32 (p : Int)), .int (i32 (b : Int))] [] τ0 = some (.inl none, τ2) := by
    rw [e399_0, swk_of (sw399 3 (by omega)), show t399 3 = 170 from rfl, e399_170, c_in (by omega) (by omega) (by omega), i32_ixn (by omega), e157, c_in (by omega) (by omega) (by omega), i32_ixn (by omega), g3, m1.2.2.1.1, e64, c_in (by omega) (by omega) (by omega), c_in (by omega) (by omega) (by omega), i32_ixn (by omega), h132, e155, ← e1, bV_ok u1, e399_268]
  have hMk : MSk fn s X' (Lv + 1) nr st oa fil mt pgs wd ev τ2 := m1.2.2.2.1.any (X' := X') (by rw [hX]; exact hS0.fr w2 rfl rfl rfl) w2 rfl rfl (by rw [w2.2 130 rfl]; exact m1.h130) (by rw [hX]; rfl) (by rw [hX]; rfl) (by rw [hX]; rfl) (by rw [hX]; rfl) (by rw [hX]; exact fun _ h => h)
  have hC1 : RMc D rg cd R cs wd pgs ev X' i (Lv + 1) nr fn s st pl pg fl bk a σ := hC.stack (X' := X') (by rw [hX]; exact hC.2.1.2.1) frW.refl (fun _ _ => rfl) hC.2.2.2.2.1 (by rw [hX]; rfl) (by rw [hX]; rfl) (by rw [hX]; rfl) (by rw [hX]; rfl) (by rw [hX]; rfl) (by rw [hX]; exact fun _ h => h)
  exact ⟨σ, τ2, mgo_on hM.2.1 hM.2.2.2.2 (by omega) (by omega) (by rw [← e0]; exact hr), frW.refl, (m2.sub rfl rfl).trans (w2.sub rfl rfl), .inl ⟨CGo.refl, wtK ((0, k1, 0) :: K), by rw [wtK_0]; exact hwt, X', (0, k1, 0) :: K, i, E, Lv + 1, ty, nr, av, Lv, (D.sl k1).length, fn, s, oa, fil, mt, pl, pg, fl, bk, a, hG', ⟨m1.1.fr w2 rfl rfl rfl, u2, hF1.fr u3 rfl rfl rfl rfl rfl rfl, hMk, by rw [w2.2 122 rfl]; exact m1.2.2.2.2⟩, hC1, .inl ⟨rfl, dc, y, by rw [hX]; exact A1, by rw [hX]; exact A2⟩, by rw [hX]; exact hmt, rfl⟩⟩
/-- a choice by a list -/
theorem J_case (hE : ENV D m rg cd T vd W M wd pgs ev) (hG : RGI D rg cd T vd W M wd X ((4, p, b) :: K) i E n ty nr av Lv dd st) (hM : RMm D rg cd vd N G rr wd pgs ev X ((4, p, b) :: K) i n nr fn s st oa fil mt τ) (hC : RMc D rg cd R cs wd pgs ev X i n nr fn s st pl pg fl bk a σ) (hA : AT D rg cd R cs X.ff bk ((4, p, b) :: K) i a n) (hmt : mt ≤ M0 + 3 * X.no ∧ s.cp ≤ M0 + 80001) :
    JST L xs d D rg cd T vd W M N G rr R cs wd pgs ev M0 st (wtK ((4, p, b) :: K)) σ τ := by
  have hkl := hG.kle hE hM.2.2.1.2.2.1
  have hkl : K.length + 1 + 20 < 130000 := hkl
  obtain ⟨_, _, hwt⟩ := hG.opt (by omega)
  obtain ⟨⟨f1, f2, f3, b1, b2⟩, hPF, hS, hV, hcon, hP, hW, o3, o4, o6⟩ := hG.on hE (by omega)
  have hκ : D.K p = 20 := by rcases hW with ⟨q, h⟩ | ⟨q, h⟩ | ⟨q, h⟩ | ⟨q, h⟩ | ⟨q, h⟩ | ⟨q, h⟩ <;> omega
  obtain ⟨k0, k1, k2, dc, y, e, hkd, A1, A2, A3, A4, A5, A6⟩ := hA.case_
  have hw2 : wkN D 4 p = 1 := by unfold wkN; rw [if_pos (.inr (.inr rfl))]
  rw [hw2] at o3 o6
  obtain rfl : n = Lv + 1 := o3
  obtain ⟨v, hv⟩ : ∃ v, v = D.vl p := ⟨_, rfl⟩
  obtain ⟨s0, s1, s2, s3, s4⟩ := (hS.2.2.2.2.2.1 k0 k1 k2 hkd).2 hκ
  obtain ⟨_, gv0, gv1⟩ := hV.2.2.1 hκ
  rw [← hv] at s1 s2 gv0 gv1
  obtain ⟨vb, vb2⟩ := hE.1.1.vb (v := v + 1) f1 f2 f3 (by unfold pgD.bd; rw [if_neg (by omega), if_neg (by omega), if_pos hκ, ← hv]; exact List.mem_cons_of_mem _ List.mem_cons_self)
  have hno := hG.no_le
  have hdd : dd = (D.sl p).length := hP.1.2.2.2.2
  have v0 := hG.2.2.1 Lv (by omega)
  have hv1 := v0.1
  rw [show ty Lv = E (T.oC k0) from o6 0 k0 (by omega) (by rw [hkd]; rfl)] at hv1
  have hp1 : 1 ≤ pgs := by have := hE.2.2.1.2.2.1; omega
  -- both, before it
  obtain ⟨m1, m2⟩ := hM.pop
  obtain ⟨τ0, e0⟩ : ∃ τ0, τ0 = wr τ 123 135 (i32 (K.length : Int)) := ⟨_, rfl⟩
  rw [← e0] at m1 m2
  have hS0 := m1.2.2.2.1.1
  have mstep : ∀ τ1, rn L xs (d + 5) 412 0 [.ref 123, .int (i32 (p : Int)), jv, jv, jv] [] τ0 = some (.inl none, τ1) → MGo L xs d τ τ1 := fun τ1 u1 => by
    refine mgo_on hM.2.1 hM.2.2.2.2 (by omega) (by omega) ?_
    rw [← e0, e399_0, swk_of (sw399 4 (by omega)), show t399 4 = 215 from rfl, e399_215, bV_ok u1, e399_268]
  have hC' := hC.next
  have hltC : a + 2 < cs := by have := AT.lt _ _ _ _ A5; have := CA.lt _ _ _ _ A3; omega
  have p1 := next_c (L := L) (xs := xs) hC'.1 hC'.2.2.2.2.1 (by omega) (d + 8)
  rw [hC'.at', A2] at p1
  have hC2 := hC'.next
  obtain ⟨σ1, eσ⟩ : ∃ σ1, σ1 = wr (wr σ 117 8 (i32 ((a + 1 : Nat) : Int))) 117 8 (i32 ((a + 1 + 1 : Nat) : Int)) := ⟨_, rfl⟩
  rw [← eσ] at p1 hC2
  have w1 : frW [117] σ σ1 := by rw [eσ]; exact (frW_wr rfl).trans (frW_wr rfl)
  have q1 : ∀ z, z ≠ 8 → rd σ1 117 z = rd σ 117 z := fun z hz => by rw [eσ, wr_nei hz, wr_nei hz]
  have hop : ∀ σ2, rn L xs (d + 10) 271 0 [.ref 117, .int (i32 ((y + 4 : Nat) : Int)), jv, jv] [] σ1 = some (.inl none, σ2) → rn L xs (d + 11) 262 (t262 22) [.ref 117, .int (i32 ((22 : Nat) : Int)), jv, jv] [] (wr σ 117 8 (i32 ((a + 1 : Nat) : Int))) = some (.inl none, σ2) := fun σ2 u1 => by
    rw [show t262 22 = 323 from rfl, e262_323 (d + 10), bI_ok p1, bV_ok u1, e262_386]
  have hRa : rd σ 95 a = i32 ((22 : Nat) : Int) := by rw [hC.at', A1]; rfl
  rcases hv1.is_list (by rw [hcon.k (by omega) (by omega), s0]) with hnil | ⟨o, u0, u1, e1, e2, e3, e4, e5, e6, e7, e8, e9⟩
  · -- nil
    have hgk : cd.hg k1 = cd.hg p := by rw [hE.1.2.1.2.1 _ p 1 k1 f1 f2 f3 (by rw [hkd]; rfl), hκ]; rfl
    have hG' : RGI D rg cd T vd W M wd X ((0, k1, 0) :: K) i E Lv ty nr av Lv (D.sl k1).length st := by
      refine hG.then (X' := X) (j := 1) hE (by omega) (by rw [hkd]; rfl) s3 (DYK.refl hG.2.2.2.1.1 (by omega)) (by omega) (fun _ _ => rfl) (fun v' hv' => ?_) (Nat.le_refl _) (fun e he => hG.2.2.1 e (by omega)) rfl rfl rfl
      unfold pgD.sn at hv'
      rw [if_neg (by omega), if_neg (by omega), if_neg (by omega)] at hv'
      exact (List.not_mem_nil hv').elim
    obtain ⟨τ1, z1, z2, z3, z4⟩ := case_nil (L := L) (xs := xs) (X := X) (m1.1.2.2.1 p b1) (by omega) hκ (by rw [hkd]; rfl) hS0 m1.2.1 (by omega) (by omega) (by show (X.sv Lv).1 = 1; rw [hnil]) (d + 3)
    have hMk : MSk fn s X Lv nr st oa fil mt pgs wd ev τ1 := m1.2.2.2.1.any (X' := X) z2 z4 rfl rfl (by rw [z4.2 130 rfl]; exact m1.h130) rfl rfl rfl rfl (RCO.less (by omega))
    obtain ⟨σ2, y1, y2, y3, y4, y5⟩ := ccase_nil (L := L) (xs := xs) (z := i32 ((y + 4 : Nat) : Int)) hC2.2.1.2.1 (by omega) (by show (X.sv Lv).1 = 1; rw [hnil]) (d + 7)
    have w3 : frW [100, 101, 102, 117] σ σ2 := (w1.sub rfl).trans (y4.sub rfl)
    have q3 : ∀ z, z ≠ 8 → rd σ2 117 z = rd σ 117 z := fun z hz => by rw [y5 z hz, q1 z hz]
    exact ⟨σ2, τ1, mstep τ1 z1, w3.sub rfl, (m2.sub rfl rfl).trans (z4.sub rfl rfl), .inl ⟨cgo_on hC.1 hC.2.2.2.2.1 (by omega) (κ := 22) hRa (by omega) (hop σ2 y1) (by rw [q3 5 (by decide)]; exact hC.2.2.2.1.2.2.2.2.1), wtK ((0, k1, 0) :: K), by rw [wtK_0]; exact hwt, X, (0, k1, 0) :: K, i, E, Lv, ty, nr, av, Lv, (D.sl k1).length, fn, s, oa, fil, mt, pl, pg, fl, bk, y + 4, hG', ⟨m1.1.fr z4 rfl rfl rfl, z3, m1.2.2.1.fr z4 rfl rfl rfl rfl rfl rfl, hMk, by rw [z4.2 122 rfl]; exact m1.2.2.2.2⟩, hC.stack (X' := X) (n' := Lv) y2 w3 q3 y3 rfl rfl rfl rfl rfl (RCO.less (by omega)), .inl ⟨rfl, dc, e, A4, A6⟩, hmt, rfl⟩⟩
  · -- a cell
    rw [hcon.a (by omega) (by omega), s1] at e8
    rw [← s2] at e9
    have hgk : cd.hg k2 = cd.hg p + 2 := by rw [hE.1.2.1.2.1 _ p 2 k2 f1 f2 f3 (by rw [hkd]; rfl), hκ]; rfl
    obtain ⟨hsl, hsl1⟩ := (hE.1.2.1.2.2.2 _ p f1 f2 f3).2.2 hκ
    rw [← hv] at hsl hsl1
    obtain ⟨r1, r2⟩ := (v0.2.1.2 o (by rw [e1]; exact ⟨0, rfl, e2, e3⟩)).1
    have hmem0 : u0 ∈ (X.hp o).co := by rw [e6]; exact List.mem_cons_self
    have hmem1 : u1 ∈ (X.hp o).co := by rw [e6]; exact List.mem_cons_of_mem _ List.mem_cons_self
    have hu0 : u0.1 ≤ 2 := (hG.2.2.2.1.2.1 o e2 e3).1.2.2.2.2.1 u0 hmem0
    have hu1 : u1.1 ≤ 2 := (hG.2.2.2.1.2.1 o e2 e3).1.2.2.2.2.1 u1 hmem1
    have hLV := v0.2.1
    rw [e1] at hLV
    obtain ⟨X', hX⟩ : ∃ X' : dyD, X' = (uq (uq X.sv Lv u0) (Lv + 1) u1, (upV (upV X i (vd v) ((Lv : Nat) : Int)) i (vd (v + 1)) ((Lv + 1 : Nat) : Int)).2) := ⟨_, rfl⟩
    have hsv : ∀ k, k < Lv → X'.sv k = X.sv k := fun k hk => by rw [hX]; show uq (uq X.sv Lv u0) (Lv + 1) u1 k = _; rw [uq_ne (by omega), uq_ne (by omega)]
    have hsv0 : X'.sv Lv = u0 := by rw [hX]; show uq (uq X.sv Lv u0) (Lv + 1) u1 Lv = _; rw [uq_ne (by omega), uq_self]
    have hsv1 : X'.sv (Lv + 1) = u1 := by rw [hX]; exact uq_self
    have haV : ∀ j e, X'.aV j e = if j = i ∧ e = vd (v + 1) then ((Lv + 1 : Nat) : Int) else if j = i ∧ e = vd v then ((Lv : Nat) : Int) else X.aV j e := fun j e => by rw [hX]; rfl
    have hbs : X'.bs i = X.bs i := by rw [hX]; rfl
    have hG' : RGI D rg cd T vd W M wd X' ((0, k2, 0) :: K) i E (Lv + 2) (uq (uq ty Lv (E (T.vC v))) (Lv + 1) (E (T.vC (v + 1)))) nr av Lv (D.sl k2).length st := by
      refine hG.then (X' := X') (j := 2) hE (by omega) (by rw [hkd]; rfl) s4 ?_ (by rw [hbs]; omega) (fun k hk => by rw [uq_ne (by omega), uq_ne (by omega)]) (fun v' hv' => ?_) (by omega) (fun k hk => ?_) (by rw [hX]; rfl) (by rw [hX]; rfl) (by rw [hX]; rfl)
      · refine ⟨⟨hG.2.2.2.1.1, by rw [hX]; exact (show X.no ≤ 30001 by omega)⟩, hsv, fun _ _ _ => by rw [hX]; rfl, by rw [hX]; exact Nat.le_refl _, by rw [hX]; exact Nat.le_refl _, fun _ _ => by rw [hX]; rfl, fun _ _ => by rw [hX]; rfl, fun _ _ _ => by rw [hX]; rfl, fun _ _ => by rw [hX]; rfl, fun j e hj => ?_, fun e he => ?_⟩
        · rw [haV, if_neg (by omega), if_neg (by omega)]
        · rw [haV, if_neg (by omega), if_neg (by omega)]
      · unfold pgD.sn at hv'
        rw [if_neg (by omega), if_neg (by omega), if_pos ⟨hκ, rfl⟩, ← hv] at hv'
        rcases List.mem_cons.mp hv' with e | e
        · subst e
          rw [haV, if_pos ⟨rfl, rfl⟩, hbs, hsl1, show X.bs i + (cd.hg p + 1) = Lv + 1 by omega, uq_self]
          exact ⟨rfl, by omega, rfl⟩
        · have e := List.mem_singleton.mp e
          subst e
          rw [haV, if_neg (by omega), if_pos ⟨rfl, rfl⟩, hbs, hsl, o4, uq_ne (by omega), uq_self]
          exact ⟨rfl, by omega, rfl⟩
      · by_cases c1 : k = Lv + 1
        · subst c1; rw [hsv1, uq_self]; exact ⟨e9, hLV.part hG.2.2.2.1.1 e2 e3 hmem1, hu1⟩
        · by_cases c2 : k = Lv
          · subst c2; rw [hsv0, uq_ne (by omega), uq_self]; exact ⟨e8, hLV.part hG.2.2.2.1.1 e2 e3 hmem0, hu0⟩
          · rw [hsv k (by omega), uq_ne c1, uq_ne c2]; exact hG.2.2.1 k (by omega)
    have hRn : ∀ o', RCO X' (Lv + 2) o' → RCO X (Lv + 1) o' := fun o' ⟨k, h1, h2⟩ => by
      have h2 : ROb X.hp X.no (X'.sv k) o' := by rw [hX] at h2 ⊢; exact h2
      by_cases c1 : k = Lv + 1
      · subst c1; rw [hsv1] at h2; exact ⟨Lv, by omega, by rw [e1]; exact ROb.up e2 e3 hmem1 h2⟩
      · by_cases c2 : k = Lv
        · subst c2; rw [hsv0] at h2; exact ⟨k, by omega, by rw [e1]; exact ROb.up e2 e3 hmem0 h2⟩
        · rw [hsv k (by omega)] at h2; exact ⟨k, by omega, h2⟩
    have hMs := case_cons (L := L) (xs := xs) (a := u0) (b := u1) (o := o) m1.1 b1 (by omega) hκ (by rw [hkd]; rfl) hv.symm (by omega) (by omega) m1.2.2.1 m1.2.2.2.1 m1.2.1 (by omega) (by omega) hno e1 e2 e3 r1 r2 e6 (by omega) (d + 2)
    have hCs := ccase_cons (L := L) (xs := xs) (z := i32 ((y + 4 : Nat) : Int)) (u := u0) (w := u1) (o := o) hC2.2.1 hC2.2.2.2.1 hp1 (hG.gch hE) (by omega) e1 e2 e3 e6 hu0 hu1 (d + 4)
    rcases hMs with ⟨n4, τ1, z1, z2, z3, z4, z5, z6⟩ | ⟨n4, τ1, τ2, z1, z2, z3, z4⟩
    · rcases hCs with ⟨_, σ2, y1, y2, y3⟩ | ⟨y0, _⟩
      · have w3 : frW [100, 101, 102, 117] σ σ2 := (w1.sub rfl).trans (y3.sub rfl)
        have q3 : ∀ z, z ≠ 8 → rd σ2 117 z = rd σ 117 z := fun z hz => by rw [y3.1 117 rfl, q1 z hz]
        have hMk : MSk fn s X' (Lv + 2) nr st oa fil mt pgs wd ev τ1 := m1.2.2.2.1.any (X' := X') (by rw [hX]; exact z2) z5 rfl rfl z6 (by rw [hX]; rfl) (by rw [hX]; rfl) (by rw [hX]; rfl) (by rw [hX]; rfl) hRn
        have hF1 : MFr X' i τ1 := z3.same (by rw [hX]; rfl) (by rw [hX]; rfl) (by rw [hX]; rfl)
        exact ⟨σ2, τ1, mstep τ1 z1, w3.sub rfl, (m2.sub rfl rfl).trans (z5.sub rfl rfl), .inl ⟨cgo_on hC.1 hC.2.2.2.2.1 (by omega) (κ := 22) hRa (by omega) (hop σ2 y1) (by rw [q3 5 (by decide)]; exact hC.2.2.2.1.2.2.2.2.1), wtK ((0, k2, 0) :: K), by rw [wtK_0]; exact hwt, X', (0, k2, 0) :: K, i, E, Lv + 2, _, nr, av, Lv, (D.sl k2).length, fn, s, oa, fil, mt, pl, pg, fl, bk, a + 2, hG', ⟨m1.1.fr z5 rfl rfl rfl, z4, hF1, hMk, by rw [z5.2 122 rfl]; exact m1.2.2.2.2⟩, hC.stack (X' := X') (n' := Lv + 2) (by rw [hX]; exact y2) w3 q3 (by rw [y3.1 117 rfl, eσ, wr_self]) (by rw [hX]; rfl) (by rw [hX]; rfl) (by rw [hX]; rfl) (by rw [hX]; rfl) (by rw [hX]; rfl) hRn, .inl ⟨rfl, dc, y, by rw [hX]; exact A3, by rw [hX]; exact A5⟩, by rw [hX]; exact hmt, rfl⟩⟩
      · omega
    · rcases hCs with ⟨y0, _⟩ | ⟨_, σ2, y1, y2, y3⟩
      · omega
      · obtain ⟨g1, g2, g3⟩ := m1.over z2 rfl rfl z3 z4
        exact ⟨σ2, τ2, mstep τ2 z1, (w1.sub rfl).trans y3, (m2.sub rfl rfl).trans g2, .inr ⟨cgo_end hC.1 hC.2.2.2.2.1 (by omega) (κ := 22) hRa (by omega) (hop σ2 y1) y2.2.1.1 (by omega), 4, s, X.B, X.no, mt, by omega, y2, hC2.1.fr y3 rfl, by rw [← hC2.2.2.2.2.2]; funext z; exact y3.1 95 rfl z, g1, g3, by omega⟩⟩
end JLET
