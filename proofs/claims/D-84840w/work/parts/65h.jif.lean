/-! RUNS, BOTH: choices, bound values -/
section JCHO
variable {L : Nat} {xs : Nat → Int32} {σ σ' σ1 τ τ' τ1 : tvS} {D : pgD} {m : Nat} {rg : rgD} {cd : cdD} {T : tsD} {vd W : Nat → Nat} {M wd pgs ev N : Nat} {G : tG} {rr : Nat → Nat} {R : Nat → Int32} {cs : Nat} {X X' : dyD} {K K' : List (Nat × Nat × Nat)} {i : Nat} {E : Nat → trE} {n n' : Nat} {ty ty' : Nat → trE} {nr nr' : Nat} {av : Nat → Prop} {Lv dd st w p b a κ q c j k : Nat} {fn fn' : Nat → Nat × Nat} {s s' : cSt} {oa : Nat → Nat} {fil mt : Nat} {pl : Nat → Nat} {pg : Nat → List Nat} {fl : List Nat} {bk : Nat → Nat} {d M0 : Nat} {x : obD} {t : trE}
/-- the ghost, when another part comes in the place of the whole -/
theorem RGI.then (hE : ENV D m rg cd T vd W M wd pgs ev) (hG : RGI D rg cd T vd W M wd X ((w, p, b) :: K) i E n ty nr av Lv dd st) (hw : 2 ≤ w ∧ w ≤ 4) (hk : (D.kd p)[j]? = some k) (hty : T.oC k = T.oC p) (hd : DYK X X' i nr Lv dd av) (hn : n' = X'.bs i + cd.hg k) (ht : ∀ e, e < Lv → ty' e = ty e) (hsn : ∀ v, v ∈ D.sn p j → X'.aV i (vd v) = ((X'.bs i + cd.sl v : Nat) : Int) ∧ cd.sl v < cd.hg k ∧ ty' (X'.bs i + cd.sl v) = E (T.vC v)) (hL : Lv ≤ n') (hval : ∀ e, e < n' → VTy D rg cd T X.hp X.no X.B (X'.sv e) (ty' e) ∧ LVv X.hp X.no X.ser nr (X'.sv e) ∧ (X'.sv e).1 ≤ 2) (e1 : X'.2.1 = X.2.1) (e2 : X'.ser = X.ser) (e3 : X'.fr = X.fr) : RGI D rg cd T vd W M wd X' ((0, k, 0) :: K) i E n' ty' nr av Lv (D.sl k).length st := by
  obtain ⟨⟨f1, f2, f3, b1, b2⟩, hPF, _, _, _, _, hW, _, _, _⟩ := hG.on hE (by omega)
  obtain ⟨⟨c1, c2, c3, c4, c5, c6⟩, ⟨g1, g2, g3, g4, g5⟩, _⟩ := hG.opt (by omega)
  have h17 : D.K p ≠ 17 := by rcases hW with ⟨_, h⟩ | ⟨_, h⟩ | ⟨_, h⟩ | ⟨_, h⟩ | ⟨_, h⟩ | ⟨_, h⟩ <;> omega
  obtain ⟨h1, h2, h3, h4, h5, _, G1, _⟩ := id hG
  have hh : X'.hp = X.hp := by unfold dyD.hp; rw [e1]
  have hn0 : X'.no = X.no := by unfold dyD.no; rw [e1]
  have hB : X'.B = X.B := by unfold dyD.B; rw [e1]
  refine ⟨?_, hL, by rw [hh, hn0, hB, e2]; exact hval, ?_, fun q hq => by show (X'.fr q).1 ≤ D.fc; rw [e3]; exact h5 q hq, ?_, ?_⟩
  · rw [hn]; exact T_then hE.1 h1 (by omega) h17 hk hty hd ht hsn (by omega)
  · have : H200 D rg cd X' := by unfold H200; rw [hh, hn0]; exact h4.2.1
    rw [hh, hn0]; exact ⟨h4.1, this, h4.2.2⟩
  · rw [hn0, hB, e2]
    have o1 : opN ((0, k, 0) :: K) = (if 1 ≤ 0 ∧ 0 ≤ 6 then 1 else 0) + opN K := rfl
    have o2 : nE ((0, k, 0) :: K) = (if 0 = 7 then 1 else 0) + nE K := rfl
    rw [if_neg (by omega)] at o1 o2
    exact ⟨by omega, by omega, c3, c4, c5, c6⟩
  · rcases G1 with ⟨q, _⟩ | ⟨q, _⟩ | ⟨q, _⟩ | ⟨_, _, _, ⟨b', K', q⟩, q'⟩
    · omega
    · omega
    · omega
    · have o3 : nR ((0, k, 0) :: K) = (if 0 = 8 then 1 else 0) + nR K := rfl
      rw [if_neg (by omega)] at o3
      refine ⟨.inl ⟨rfl, ?_⟩, by omega, ⟨fun e => absurd (show (0 : Nat) = 8 from e) (by decide), g3⟩, ⟨fun _ => ?_, g4⟩, fun e he => ?_⟩
      · rw [q] at q' ⊢
        rcases q' with ⟨z, _⟩ | ⟨_, _, z⟩ | ⟨z, _⟩ | ⟨_, z, _⟩
        · omega
        · exact .inr (.inl ⟨rfl, Nat.le_refl _, z⟩)
        · omega
        · omega
      · show lu D K + W k ≤ M
        rw [q] at g4 ⊢
        have z := g4.1 (.inr rfl)
        have z : lu D K' + W p ≤ M := z
        have z2 := hE.2.1.1 _ p j k f1 f2 f3 hk
        have eL : lu D ((7, p, b') :: K') = if 7 = 8 then 0 else (if 7 = 7 then cwt D p else 0) + lu D K' := rfl
        rw [eL, if_neg (by omega), if_pos rfl]
        omega
      · rcases List.mem_cons.mp he with z | z
        · subst z; exact ⟨fun e => absurd (show 1 ≤ (0 : Nat) from e) (by decide), fun e => absurd (show (0 : Nat) = 5 from e) (by decide)⟩
        · exact g5 e z
theorem wtK_0 : wtK ((0, k, b) :: K) = wtK K := by show (if 0 = 0 then 0 else _) + wtK K = _; rw [if_pos rfl, Nat.zero_add]
theorem AT.if_ (h : AT D rg cd R cs X.ff bk ((2, p, b) :: K) i a n) : ∃ k0 k1 k2 d y e, D.kd p = [k0, k1, k2] ∧ R a = 20 ∧ R (a + 1) = i32 ((y + 2 : Nat) : Int) ∧ CA D rg cd R (X.ff i) d k1 (a + 2) y ∧ CA D rg cd R (X.ff i) d k2 (y + 2) e ∧ AT D rg cd R cs X.ff bk K i y n ∧ AT D rg cd R cs X.ff bk K i e n := by
  rcases h with ⟨q, _⟩ | ⟨q, _⟩ | ⟨q, _⟩ | ⟨q, _⟩ | ⟨q, _⟩ | ⟨_, h⟩ | ⟨q, _⟩ | ⟨q, _⟩ | ⟨q, _⟩ | ⟨q, _⟩
  · omega
  · omega
  · omega
  · omega
  · omega
  · exact h
  all_goals omega
theorem AT.let_ (h : AT D rg cd R cs X.ff bk ((3, p, b) :: K) i a n) : ∃ k0 k1 d y, D.kd p = [k0, k1] ∧ CA D rg cd R (X.ff i) d k1 a y ∧ AT D rg cd R cs X.ff bk K i y (n + 1) := by
  rcases h with ⟨q, _⟩ | ⟨q, _⟩ | ⟨q, _⟩ | ⟨q, _⟩ | ⟨q, _⟩ | ⟨q, _⟩ | ⟨_, h⟩ | ⟨q, _⟩ | ⟨q, _⟩ | ⟨q, _⟩
  · omega
  · omega
  · omega
  · omega
  · omega
  · omega
  · exact h
  all_goals omega
theorem AT.case_ (h : AT D rg cd R cs X.ff bk ((4, p, b) :: K) i a n) : ∃ k0 k1 k2 d y e, D.kd p = [k0, k1, k2] ∧ R a = 22 ∧ R (a + 1) = i32 ((y + 4 : Nat) : Int) ∧ CA D rg cd R (X.ff i) d k2 (a + 2) y ∧ CA D rg cd R (X.ff i) d k1 (y + 4) e ∧ AT D rg cd R cs X.ff bk K i y (n + 2) ∧ AT D rg cd R cs X.ff bk K i e n := by
  rcases h with ⟨q, _⟩ | ⟨q, _⟩ | ⟨q, _⟩ | ⟨q, _⟩ | ⟨q, _⟩ | ⟨q, _⟩ | ⟨q, _⟩ | ⟨_, h⟩ | ⟨q, _⟩ | ⟨q, _⟩
  · omega
  · omega
  · omega
  · omega
  · omega
  · omega
  · omega
  · exact h
  all_goals omega
theorem MSt.less (h : MSt n X.sv τ) (hn : n' ≤ n) (h132 : rd τ' 123 132 = i32 (n' : Int)) (h1 : ∀ q, rd τ' 207 q = rd τ 207 q ∧ rd τ' 208 q = rd τ 208 q) : MSt n' X.sv τ' := ⟨h132, by have := h.2.1; omega, fun k hk => by rw [(h1 k).1, (h1 k).2]; exact h.2.2 k (by omega)⟩
theorem RCO.less (hn : n' ≤ n) : ∀ o, RCO X n' o → RCO X n o := fun o ⟨k, h1, h2⟩ => ⟨k, by omega, h2⟩
/-- a choice by a number -/
theorem J_if (hE : ENV D m rg cd T vd W M wd pgs ev) (hG : RGI D rg cd T vd W M wd X ((2, p, b) :: K) i E n ty nr av Lv dd st) (hM : RMm D rg cd vd N G rr wd pgs ev X ((2, p, b) :: K) i n nr fn s st oa fil mt τ) (hC : RMc D rg cd R cs wd pgs ev X i n nr fn s st pl pg fl bk a σ) (hA : AT D rg cd R cs X.ff bk ((2, p, b) :: K) i a n) (hmt : mt ≤ M0 + 3 * X.no ∧ s.cp ≤ M0 + 80001) :
    JST L xs d D rg cd T vd W M N G rr R cs wd pgs ev M0 st (wtK ((2, p, b) :: K)) σ τ := by
  have hkl := hG.kle hE hM.2.2.1.2.2.1
  have hkl : K.length + 1 + 20 < 130000 := hkl
  obtain ⟨_, _, hwt⟩ := hG.opt (by omega)
  obtain ⟨⟨f1, f2, f3, b1, b2⟩, hPF, hS, hV, hcon, hP, hW, o3, o4, o6⟩ := hG.on hE (by omega)
  have hκ : D.K p = 18 := by rcases hW with ⟨q, h⟩ | ⟨q, h⟩ | ⟨q, h⟩ | ⟨q, h⟩ | ⟨q, h⟩ | ⟨q, h⟩ <;> omega
  obtain ⟨k0, k1, k2, dc, y, e, hkd, A1, A2, A3, A4, A5, A6⟩ := hA.if_
  have hw2 : wkN D 2 p = 1 := by unfold wkN; rw [if_pos (.inl rfl)]
  rw [hw2] at o3 o6
  obtain rfl : n = Lv + 1 := o3
  obtain ⟨s0, s1, s2⟩ := (hS.2.2.2.2.2.1 k0 k1 k2 hkd).1 hκ
  have v0 := hG.2.2.1 Lv (by omega)
  have z0 : (X.sv Lv).1 = 0 := by
    have := v0.1
    rw [show ty Lv = E (T.oC k0) from o6 0 k0 (by omega) (by rw [hkd]; rfl)] at this
    exact this.is_num (by rw [hcon.k (by omega) (by omega), s0])
  have hno := hG.no_le
  have hsn : ∀ j, D.sn p j = [] := fun j => by unfold pgD.sn; rw [if_neg (by omega), if_neg (by omega), if_neg (by omega)]
  have hgk : ∀ j k, (D.kd p)[j]? = some k → cd.hg k = cd.hg p := fun j k hk => by rw [hE.1.2.1.2.1 _ p j k f1 f2 f3 hk, hκ]; rfl
  have hGk : ∀ j k, (D.kd p)[j]? = some k → T.oC k = T.oC p → RGI D rg cd T vd W M wd X ((0, k, 0) :: K) i E Lv ty nr av Lv (D.sl k).length st := fun j k hk hty => hG.then (X' := X) hE (by omega) hk hty (DYK.refl hG.2.2.2.1.1 (by omega)) (by rw [hgk j k hk]; omega) (fun _ _ => rfl) (fun v hv => by rw [hsn] at hv; exact (List.not_mem_nil hv).elim) (Nat.le_refl _) (fun e he => hG.2.2.1 e (by omega)) rfl rfl rfl
  -- the model
  obtain ⟨m1, m2⟩ := hM.pop
  obtain ⟨τ0, e0⟩ : ∃ τ0, τ0 = wr τ 123 135 (i32 (K.length : Int)) := ⟨_, rfl⟩
  rw [← e0] at m1 m2
  have hS0 := m1.2.2.2.1.1
  have h132 : rd τ0 123 132 - 1 = i32 (Lv : Int) := by rw [hS0.1, show (1 : Int32) = i32 1 from rfl, i32_sub]; congr 1; omega
  have h4000 := hS0.2.1
  obtain ⟨τ2, e2⟩ : ∃ τ2, τ2 = wr τ0 123 132 (i32 (Lv : Int)) := ⟨_, rfl⟩
  have w2 : frM [] [132] τ0 τ2 := by rw [e2]; exact frM_w rfl
  have hC2 : MCt K τ2 := m1.2.1.fr w2 rfl rfl rfl rfl
  have hRp := (m1.1.2.2.1 p b1).2.1 (by omega)
  have hMm : ∀ k : Nat, k < 4001 → ∃ τ3, rn L xs (d + 5) 397 0 [.ref 123, .int 0, .int (i32 (k : Int)), .int 0] [] τ2 = some (.inl none, τ3) ∧ frM [209, 210, 211] [132, 135] τ0 τ3 ∧ RMm D rg cd vd N G rr wd pgs ev X ((0, k, 0) :: K) i Lv nr fn s st oa fil mt τ3 := fun k hk => by
    obtain ⟨τ3, u1, u2, u3⟩ := plan_m (L := L) (xs := xs) hC2 (by omega) (0, k, 0) (d + 4)
    have w3 : frM [209, 210, 211] [132, 135] τ0 τ3 := (w2.sub rfl rfl).trans (u3.sub rfl rfl)
    refine ⟨τ3, u1, w3, m1.1.fr w3 rfl rfl rfl, u2, m1.2.2.1.fr w3 rfl rfl rfl rfl rfl rfl, m1.2.2.2.1.any (X' := X) (hS0.less (n' := Lv) (by omega) (by rw [u3.2 132 rfl, e2, wr_self]) (fun q => ⟨w3.1.1 207 rfl q, w3.1.1 208 rfl q⟩)) w3 rfl rfl (by rw [w3.2 130 rfl]; exact m1.h130) rfl rfl rfl rfl (RCO.less (by omega)), by rw [w3.2 122 rfl]; exact m1.2.2.2.2⟩
  have kb : ∀ j k, (D.kd p)[j]? = some k → k < 4001 := fun j k hk => by have := (contN.at _ _ _ j k hPF.2.1 hk).2.2.1; omega
  -- the component
  have hC' := hC.next
  have hltC : a + 2 < cs := by have := AT.lt _ _ _ _ A5; have := CA.lt _ _ _ _ A3; omega
  have p1 := next_c (L := L) (xs := xs) hC'.1 hC'.2.2.2.2.1 (by omega) (d + 8)
  rw [hC'.at', A2] at p1
  obtain ⟨σ1, eσ⟩ : ∃ σ1, σ1 = wr (wr σ 117 8 (i32 ((a + 1 : Nat) : Int))) 117 8 (i32 ((a + 1 + 1 : Nat) : Int)) := ⟨_, rfl⟩
  rw [← eσ] at p1
  have w1 : frW [117] σ σ1 := by rw [eσ]; exact (frW_wr rfl).trans (frW_wr rfl)
  have q1 : ∀ z, z ≠ 8 → rd σ1 117 z = rd σ 117 z := fun z hz => by rw [eσ, wr_nei hz, wr_nei hz]
  have hS1 : CSt (Lv + 1) X.sv pl σ1 := hC.2.1.2.1.fr (fun j hj q => by rcases hj with e | e | e <;> rw [e] <;> exact w1.1 _ rfl q)
  have p2 := top_c (L := L) (xs := xs) hS1 (by omega) (d + 8)
  have p3 := val_c (L := L) (xs := xs) (k := Lv) hS1 (by omega) (d + 9)
  have ec : cwd pl (X.sv Lv) = (X.sv Lv).2 := by unfold cwd; rw [if_neg (by omega)]
  rw [ec] at p3
  have hCk : ∀ (σ2 : tvS) (a' : Nat) (v1 v2 : Value), frW [117] σ1 σ2 → (∀ z, z ≠ 8 → rd σ2 117 z = rd σ1 117 z) → rd σ2 117 8 = i32 (a' : Int) → rn L xs (d + 11) 262 (t262 20) [.ref 117, .int (i32 ((20 : Nat) : Int)), jv, jv] [] (wr σ 117 8 (i32 ((a + 1 : Nat) : Int))) = rn L xs (d + 11) 262 294 [.ref 117, v1, v2, .int (i32 ((y + 2 : Nat) : Int))] [] σ2 → ∃ σ3, CGo L xs d σ σ3 ∧ frW RCr σ σ3 ∧ RMc D rg cd R cs wd pgs ev X i Lv nr fn s st pl pg fl bk a' σ3 := fun σ2 a' v1 v2 w2 q2 h8 hh => by
    have hS2 : CSt (Lv + 1) X.sv pl σ2 := hS1.fr (fun j hj q => by rcases hj with e | e | e <;> rw [e] <;> exact w2.1 _ rfl q)
    obtain ⟨σ3, y1, y2, y3⟩ := drop_c (L := L) (xs := xs) (k := 1) hS2 (by omega) (d + 9)
    have y1 : rn L xs (d + 10) 223 0 [.ref 100, .int 1] [] σ2 = some (.inl none, σ3) := y1
    have w3 : frW [100, 101, 102, 117] σ σ3 := (w1.sub rfl).trans ((w2.sub rfl).trans (y3.sub rfl))
    have q3 : ∀ z, z ≠ 8 → rd σ3 117 z = rd σ 117 z := fun z hz => by rw [y3.1 117 rfl, q2 z hz, q1 z hz]
    refine ⟨σ3, cgo_on hC.1 hC.2.2.2.2.1 (by omega) (κ := 20) (by rw [hC.at', A1]; rfl) (by omega) ?_ ?_, w3.sub rfl, hC.stack (X' := X) y2 w3 q3 (by rw [y3.1 117 rfl]; exact h8) rfl rfl rfl rfl rfl (RCO.less (by omega))⟩
    · rw [hh, e262_294 (d + 10), bV_ok y1, e262_386]
    · rw [q3 5 (by decide)]; exact hC.2.2.2.1.2.2.2.2.1
  have hhead : rn L xs (d + 6) 399 0 [.ref 123, .int (i32 ((2 : Nat) : Int)), .int (i32 (p : Int)), .int (i32 (b : Int))] [] τ0 = cond (pv_c1 .eq (X.sv Lv).2) (rn L xs (d + 6) 399 157 [.ref 123, .int (i32 ((2 : Nat) : Int)), .int (i32 (p : Int)), .int (i32 (b : Int))] [.int 0, .ref 123] τ2) (rn L xs (d + 6) 399 163 [.ref 123, .int (i32 ((2 : Nat) : Int)), .int (i32 (p : Int)), .int (i32 (b : Int))] [.int (rd τ0 155 p), .int 0, .ref 123] τ2) := by
    rw [e399_0, swk_of (sw399 2 (by omega)), show t399 2 = 124 from rfl, e399_124, h132, c_in (by omega) (by omega) (by omega), i32_ixn (by omega), (hS0.2.2 Lv (by omega)).2, c_in (by omega) (by omega) (by omega), i32_ixn (by omega), ← e2]
  obtain ⟨r1, r2, hrun⟩ : ∃ v1 v2 : Value, rn L xs (d + 11) 262 (t262 20) [.ref 117, .int (i32 ((20 : Nat) : Int)), jv, jv] [] (wr σ 117 8 (i32 ((a + 1 : Nat) : Int))) = cond (pv_c1 .ne (X.sv Lv).2) (rn L xs (d + 11) 262 294 [.ref 117, v1, v2, .int (i32 ((y + 2 : Nat) : Int))] [] σ1) (rn L xs (d + 11) 262 294 [.ref 117, v1, v2, .int (i32 ((y + 2 : Nat) : Int))] [] (wr σ1 117 8 (i32 ((y + 2 : Nat) : Int)))) := by
    refine ⟨dj (dj (dj (.int (i32 ((20 : Nat) : Int))))), dj (dj (jk (dj jv))), ?_⟩
    rw [show t262 20 = 270 from rfl, e262_270 (d + 10), bI_ok p1, bI_ok p2, show i32 ((Lv + 1 - 1 : Nat) : Int) = i32 (Lv : Int) from rfl, bI_ok p3]
  by_cases cz : (X.sv Lv).2 = 0
  · obtain ⟨τ3, u1, u2, u3⟩ := hMm k2 (kb 2 k2 (by rw [hkd]; rfl))
    have e156 : rd τ2 156 p = i32 (k2 : Int) := by rw [w2.1.1 156 rfl, hRp 2 (by omega), hkd]; rfl
    obtain ⟨σ3, y1, y2, y3⟩ := hCk (wr σ1 117 8 (i32 ((y + 2 : Nat) : Int))) (y + 2) r1 r2 (frW_wr rfl) (fun z hz => wr_nei hz) (wr_self _ _ _ _) (by rw [hrun, show pv_c1 .ne (X.sv Lv).2 = false from decide_eq_false (not_not_intro cz), cond_false])
    refine ⟨σ3, τ3, mgo_on hM.2.1 hM.2.2.2.2 (by omega) (by omega) ?_, y2, (m2.sub rfl rfl).trans (u2.sub rfl rfl), .inl ⟨y1, wtK ((0, k2, 0) :: K), by rw [wtK_0]; exact hwt, X, (0, k2, 0) :: K, i, E, Lv, ty, nr, av, Lv, (D.sl k2).length, fn, s, oa, fil, mt, pl, pg, fl, bk, y + 2, hGk 2 k2 (by rw [hkd]; rfl) s2, u3, y3, .inl ⟨rfl, dc, e, A4, A6⟩, hmt, rfl⟩⟩
    rw [← e0, hhead, show pv_c1 .eq (X.sv Lv).2 = true from decide_eq_true cz, cond_true, e399_157, c_in (by omega) (by omega) (by omega), i32_ixn (by omega), e156, e399_163, bV_ok u1, e399_268]
  · obtain ⟨τ3, u1, u2, u3⟩ := hMm k1 (kb 1 k1 (by rw [hkd]; rfl))
    have e155 : rd τ0 155 p = i32 (k1 : Int) := by rw [hRp 1 (by omega), hkd]; rfl
    obtain ⟨σ3, y1, y2, y3⟩ := hCk σ1 (a + 2) r1 r2 frW.refl (fun _ _ => rfl) (by rw [eσ, wr_self]) (by rw [hrun, show pv_c1 .ne (X.sv Lv).2 = true from decide_eq_true cz, cond_true])
    refine ⟨σ3, τ3, mgo_on hM.2.1 hM.2.2.2.2 (by omega) (by omega) ?_, y2, (m2.sub rfl rfl).trans (u2.sub rfl rfl), .inl ⟨y1, wtK ((0, k1, 0) :: K), by rw [wtK_0]; exact hwt, X, (0, k1, 0) :: K, i, E, Lv, ty, nr, av, Lv, (D.sl k1).length, fn, s, oa, fil, mt, pl, pg, fl, bk, a + 2, hGk 1 k1 (by rw [hkd]; rfl) s1, u3, y3, .inl ⟨rfl, dc, y, A3, A5⟩, hmt, rfl⟩⟩
    rw [← e0, hhead, show pv_c1 .eq (X.sv Lv).2 = false from decide_eq_false cz, cond_false, e155, e399_163, bV_ok u1, e399_268]
end JCHO
