/-! RUNS, BOTH: pairs and cells -/
section JTWO
variable {L : Nat} {xs : Nat → Int32} {σ σ' σ1 τ τ' : tvS} {D : pgD} {m : Nat} {rg : rgD} {cd : cdD} {T : tsD} {vd W : Nat → Nat} {M wd pgs ev N : Nat} {G : tG} {rr : Nat → Nat} {R : Nat → Int32} {cs : Nat} {X X' : dyD} {K K' : List (Nat × Nat × Nat)} {i : Nat} {E : Nat → trE} {n n' : Nat} {ty : Nat → trE} {nr nr' : Nat} {av : Nat → Prop} {Lv dd st w p b a κ q : Nat} {fn fn' : Nat → Nat × Nat} {s s' : cSt} {oa : Nat → Nat} {fil mt : Nat} {pl : Nat → Nat} {pg : Nat → List Nat} {fl : List Nat} {bk : Nat → Nat} {d M0 : Nat} {x : obD} {t : trE}
/-- what is left when what comes behind a part's parts is taken -/
theorem RGI.opt (h : RGI D rg cd T vd W M wd X ((w, p, b) :: K) i E n ty nr av Lv dd st) (hw : 1 ≤ w ∧ w ≤ 6) : (X.no + 1 + opN K ≤ st ∧ nE K ≤ st ∧ st ≤ 30000 ∧ 1 ≤ X.B ∧ X.B ≤ 60 * st + 62 ∧ ∀ r, r < nr → X.ser r < X.B) ∧ (KGr D K 0 1 ∧ nR K = i ∧ okF D M K ∧ SPI D W M K ∧ EOK D K) ∧ wtK K < wtK ((w, p, b) :: K) := by
  obtain ⟨h1, h2, h3, h4, h5, ⟨c1, c2, c3, c4, c5, c6⟩, g1, g2, g3, g4, g5⟩ := h
  have o1 : opN ((w, p, b) :: K) = (if 1 ≤ w ∧ w ≤ 6 then 1 else 0) + opN K := rfl
  have o2 : nE ((w, p, b) :: K) = (if w = 7 then 1 else 0) + nE K := rfl
  have o3 : nR ((w, p, b) :: K) = (if w = 8 then 1 else 0) + nR K := rfl
  have o4 : wtK ((w, p, b) :: K) = (if w = 0 then 0 else if w = 5 ∨ w = 6 then 3 else 1) + wtK K := rfl
  rw [if_pos hw] at o1
  rw [if_neg (by omega)] at o2 o3 o4
  refine ⟨⟨by omega, by omega, c3, c4, c5, c6⟩, ?_, ?_⟩
  · rcases g1 with ⟨q, _⟩ | ⟨q, _⟩ | ⟨q, _⟩ | ⟨_, _, _, _, q⟩
    · omega
    · omega
    · omega
    · exact ⟨KGr.up _ _ _ q, by omega, g3.2, g4.2, fun e he => g5 e (List.mem_cons_of_mem _ he)⟩
  · rw [o4]; split <;> omega
/-- the value of a part is there -/
theorem RGI.done {v : vaL} (h : RGI D rg cd T vd W M wd X ((w, p, b) :: K) i E n ty nr av Lv dd st) (hw : 1 ≤ w ∧ w ≤ 6) (hn : Lv ≤ n) (hv : VTy D rg cd T X.hp X.no X.B v (E (T.oC p)) ∧ LVv X.hp X.no X.ser nr v ∧ v.1 ≤ 2) (hX : X' = (uq X.sv Lv v, X.2)) : RGI D rg cd T vd W M wd X' K i E (Lv + 1) (uq ty Lv (E (T.oC p))) nr av Lv dd st := by
  have hno := h.no_le
  obtain ⟨⟨c1, c2, c3, c4, c5, c6⟩, hk, _⟩ := h.opt hw
  obtain ⟨h1, h2, h3, h4, h5, _, _⟩ := h
  subst hX
  refine ⟨T_done h1 hw ⟨⟨h4.1, ?_⟩, fun k hk => uq_ne (by omega), fun _ _ _ => rfl, Nat.le_refl _, Nat.le_refl _, fun _ _ => rfl, fun _ _ => rfl, fun _ _ _ => rfl, fun _ _ => rfl, fun _ _ _ => rfl, fun _ _ => rfl⟩, by omega, fun k hk => ?_, h4, h5, ⟨?_, c2, c3, c4, c5, c6⟩, hk⟩
  · show X.no ≤ 30001; omega
  · show VTy D rg cd T X.hp X.no X.B (uq X.sv Lv v k) _ ∧ LVv X.hp X.no X.ser nr (uq X.sv Lv v k) ∧ (uq X.sv Lv v k).1 ≤ 2
    by_cases e : k = Lv
    · rw [e, uq_self, uq_self]; exact hv
    · rw [uq_ne e, uq_ne e]; exact h3 k (by omega)
  · show X.no + opN K ≤ st; omega
/-- an object more -/
theorem made_vals (hval : ∀ k, k < Lv → VTy D rg cd T X.hp X.no X.B (X.sv k) (ty k) ∧ LVv X.hp X.no X.ser nr (X.sv k) ∧ (X.sv k).1 ≤ 2) (hH : HOK X.hp X.no ∧ H200 D rg cd X ∧ ∀ o, 1 ≤ o → o ≤ X.no → szO (X.hp o) ≤ wd) (hno : X.no + 1 ≤ 30000) (hW : WFo D rg cd x) (h17 : x.kd = 3 → ∃ f, f ≤ D.fc ∧ D.bP f ≤ x.pt ∧ x.pt < D.bP (f + 1) ∧ D.K x.pt = 17) (hs : szO x ≤ wd) (hc : ∀ w, w ∈ x.co → LVv X.hp X.no X.ser nr w) (hg : x.gi < nr ∧ X.ser x.gi = x.se) (hk : ∀ r s, (r, s) ∈ x.kp → r < nr ∧ X.ser r = s) (hT : VTy D rg cd T (uq X.hp (X.no + 1) x) (X.no + 1) X.B (2, i32 ((X.no + 1 : Nat) : Int)) t) (hX : X' = (uq X.sv Lv (2, i32 ((X.no + 1 : Nat) : Int)), (uq X.hp (X.no + 1) x, X.no + 1, X.B), X.2.2)) :
    (∀ k, k < Lv + 1 → VTy D rg cd T X'.hp X'.no X'.B (X'.sv k) (uq ty Lv t k) ∧ LVv X'.hp X'.no X'.ser nr (X'.sv k) ∧ (X'.sv k).1 ≤ 2) ∧ (HOK X'.hp X'.no ∧ H200 D rg cd X' ∧ ∀ o, 1 ≤ o → o ≤ X'.no → szO (X'.hp o) ≤ wd) := by
  subst hX
  refine ⟨fun k hk' => ?_, HOK.new hH.1 (fun w hw => (hc w hw).1), fun o o1 o2 => ?_, fun o o1 o2 => ?_⟩
  · show VTy D rg cd T (uq X.hp (X.no + 1) x) (X.no + 1) X.B (uq X.sv Lv (2, i32 ((X.no + 1 : Nat) : Int)) k) _ ∧ LVv (uq X.hp (X.no + 1) x) (X.no + 1) X.ser nr (uq X.sv Lv (2, i32 ((X.no + 1 : Nat) : Int)) k) ∧ (uq X.sv Lv (2, i32 ((X.no + 1 : Nat) : Int)) k).1 ≤ 2
    by_cases e : k = Lv
    · rw [e, uq_self, uq_self]
      exact ⟨hT, LVv.new (by omega) hH.1 hc hg hk, Nat.le_refl _⟩
    · rw [uq_ne e, uq_ne e]
      obtain ⟨a1, a2, a3⟩ := hval k (by omega)
      exact ⟨a1.grow, a2.mono (no' := X.no + 1) (by omega) hH.1 (by omega) (fun o _ h2 => uq_ne (by omega)) (Nat.le_refl _) (fun _ _ => rfl), a3⟩
  · show WFo D rg cd (uq X.hp (X.no + 1) x o) ∧ ((uq X.hp (X.no + 1) x o).kd = 3 → _)
    by_cases e : o = X.no + 1
    · subst e; rw [uq_self]; exact ⟨hW, by intro h3; show ∃ f, f ≤ D.fc ∧ D.bP f ≤ (uq X.hp (X.no + 1) x (X.no + 1)).pt ∧ (uq X.hp (X.no + 1) x (X.no + 1)).pt < D.bP (f + 1) ∧ D.K (uq X.hp (X.no + 1) x (X.no + 1)).pt = 17; rw [uq_self]; exact h17 h3⟩
    · have o2 : o ≤ X.no + 1 := o2
      rw [uq_ne e]
      refine ⟨(hH.2.1 o o1 (by omega)).1, ?_⟩
      show _ → ∃ f, f ≤ D.fc ∧ D.bP f ≤ (uq X.hp (X.no + 1) x o).pt ∧ (uq X.hp (X.no + 1) x o).pt < D.bP (f + 1) ∧ D.K (uq X.hp (X.no + 1) x o).pt = 17
      rw [uq_ne e]
      exact (hH.2.1 o o1 (by omega)).2
  · show szO (uq X.hp (X.no + 1) x o) ≤ wd
    have o2 : o ≤ X.no + 1 := o2
    by_cases e : o = X.no + 1
    · rw [e, uq_self]; exact hs
    · rw [uq_ne e]; exact hH.2.2 o o1 (by omega)
theorem AT.two (h : AT D rg cd R cs X.ff bk ((1, p, b) :: K) i a n) (hk : D.K p = 4 ∨ D.K p = 16) : R a = (if D.K p = 4 then 7 else 8) ∧ R (a + 1) = i32 (rg.nu p 0 : Int) ∧ AT D rg cd R cs X.ff bk K i (a + 2) (n - 1) := by
  rcases h with ⟨q, _⟩ | ⟨q, _⟩ | ⟨q, _⟩ | ⟨_, _, h⟩ | ⟨_, q, _⟩ | ⟨q, _⟩ | ⟨q, _⟩ | ⟨q, _⟩ | ⟨q, _⟩ | ⟨q, _⟩
  · omega
  · omega
  · omega
  · exact h
  all_goals omega
theorem AT.op (h : AT D rg cd R cs X.ff bk ((1, p, b) :: K) i a n) (hk : D.K p = 5 ∨ D.K p = 6 ∨ (8 ≤ D.K p ∧ D.K p ≤ 15)) : R a = (if D.K p = 5 then 10 else if D.K p = 6 then 11 else i32 ((4 + D.K p : Nat) : Int)) ∧ AT D rg cd R cs X.ff bk K i (a + 1) (if D.K p = 5 ∨ D.K p = 6 then n else n - 1) := by
  rcases h with ⟨q, _⟩ | ⟨q, _⟩ | ⟨q, _⟩ | ⟨_, q, _⟩ | ⟨_, _, h⟩ | ⟨q, _⟩ | ⟨q, _⟩ | ⟨q, _⟩ | ⟨q, _⟩ | ⟨q, _⟩
  · omega
  · omega
  · omega
  · omega
  · exact h
  all_goals omega
theorem PGF.pb (hF : PGF D m) {f : Nat} (hf : f ≤ D.fc) (h2 : p < D.bP (f + 1)) : p < D.bP (D.fc + 1) ∧ p < 4001 := by
  obtain ⟨q1, _⟩ := hF.le (D.fc + 1 - (f + 1)) (f + 1) (by omega)
  have := hF.1.2.2.1
  exact ⟨by omega, by omega⟩
/-- a pair or a cell -/
theorem J_two (hE : ENV D m rg cd T vd W M wd pgs ev) (hG : RGI D rg cd T vd W M wd X ((1, p, b) :: K) i E n ty nr av Lv dd st) (hM : RMm D rg cd vd N G rr wd pgs ev X ((1, p, b) :: K) i n nr fn s st oa fil mt τ) (hC : RMc D rg cd R cs wd pgs ev X i n nr fn s st pl pg fl bk a σ) (hA : AT D rg cd R cs X.ff bk ((1, p, b) :: K) i a n) (hmt : mt ≤ M0 + 3 * X.no ∧ s.cp ≤ M0 + 80001) (hM0 : M0 ≤ 2000000000) (hκ : D.K p = 4 ∨ D.K p = 16) :
    JST L xs d D rg cd T vd W M N G rr R cs wd pgs ev M0 st (wtK ((1, p, b) :: K)) σ τ := by
  have hkl := hG.kle hE hM.2.2.1.2.2.1
  have hkl : K.length + 1 + 20 < 130000 := hkl
  obtain ⟨⟨c1, c2, c3, c4, c5, c6⟩, hk, hwt⟩ := hG.opt (by omega)
  obtain ⟨o1, o2, o3, o4, ⟨K', o5⟩, o6, o7⟩ := TK.on hG.1 (by omega)
  obtain ⟨⟨f1, f2, f3, f4, f5⟩, pc, ps, pp⟩ := id o2
  obtain ⟨b1, b2⟩ := hE.1.1.pb f1 f3
  have hPF := (hE.1.1.2.2 _ f1).2.2.1 p f2 f3
  obtain ⟨k0, k1, hkd⟩ := kd_two (D := D) (p := p) (by rw [hPF.2.2.1 (by omega)]; rcases hκ with e | e <;> rw [e] <;> rfl)
  have hw2 : wkN D 1 p = 2 := by unfold wkN; rw [if_neg (by omega), hkd]; rfl
  rw [hw2] at o3 o6
  have hn2 : n - 2 = Lv := by omega
  have v0 := hG.2.2.1 (n - 2) (by omega)
  have v1 := hG.2.2.1 (n - 1) (by omega)
  have t0 : ty (n - 2) = E (T.oC k0) := by rw [hn2]; exact o6 0 k0 (by omega) (by rw [hkd]; rfl)
  have t1 : ty (n - 1) = E (T.oC k1) := by rw [show n - 1 = Lv + 1 by omega]; exact o6 1 k1 (by omega) (by rw [hkd]; rfl)
  obtain ⟨kind, hkind⟩ : ∃ kind, kind = (if D.K p = 4 then 1 else 2) := ⟨_, rfl⟩
  have hk12 : kind = 1 ∨ kind = 2 := by rw [hkind]; split <;> simp
  have hk3 : ¬ kind = 3 := by omega
  obtain ⟨r, hr⟩ : ∃ r, r = X.aR i (rg.nu p 0) := ⟨_, rfl⟩
  obtain ⟨x, hx⟩ : ∃ x : obD, x = ((kind, p), (r, X.ser r), [X.sv (n - 2), X.sv (n - 1)], []) := ⟨_, rfl⟩
  obtain ⟨X', hX⟩ : ∃ X' : dyD, X' = (uq X.sv (n - 2) (2, i32 ((X.no + 1 : Nat) : Int)), (uq X.hp (X.no + 1) x, X.no + 1, X.B), X.2.2) := ⟨_, rfl⟩
  have hT := T_two (x := x) hE.1 o2 hκ hkd (a := X.sv (n - 2)) (b := X.sv (n - 1)) (by rw [← t0]; exact v0.1) (by rw [← t1]; exact v1.1) (by rw [hx, hkind, hr])
  rw [← hr] at hT
  obtain ⟨hrn, hT⟩ := hT
  obtain ⟨nu1, nu2, nu3⟩ := PRT.put (k := rg.nu p 0) hE.1 o2 (.inl ⟨by omega, rfl⟩)
  have hnK := hE.1.2.2.2.2.2.2.2.2 (X.ff i) f1
  obtain ⟨Nq, A, hU⟩ := hG.puh hE (by omega)
  have hev := hE.2.2.1.2.2.2.2
  have hcap := hG.cap hE hC.2.1 (X.no + 1)
  have hser := c6 r hrn
  have hgr := hG.gch hE
  -- the model
  obtain ⟨m1, m2⟩ := hM.pop
  have hp6 : p < 6000 := by omega
  have e151 := (m1.1.2.2.1 p b1).1
  have mstep : ∀ τ1, rn L xs (d + 5) 400 0 [.ref 123, .int (i32 (p : Int)), .int (i32 (kind : Int)), jv] [] (wr τ 123 135 (i32 (K.length : Int))) = some (.inl none, τ1) → MGo L xs d τ τ1 := fun τ1 u1 => by
    refine mgo_on hM.2.1 hM.2.2.2.2 (by omega) (by omega) ?_
    rw [e399_0, swk_of (sw399 1 (by omega)), show t399 1 = 48 from rfl, e399_48, c_in (by omega) (by omega) (by omega), i32_ixn (by omega), e151]
    rcases hκ with e | e
    · rw [e, show pv_c2 .eq (i32 ((mKd 4 : Nat) : Int)) 5 = true from rfl, cond_true, e399_69, c_in (by omega) (by omega) (by omega), i32_ixn (by omega), e151, e, show pv_c2 .ne (i32 ((mKd 4 : Nat) : Int)) 5 = false from rfl, cond_false, e399_86]
      rw [hkind, if_pos e] at u1
      rw [show (1 : Int32) = i32 ((1 : Nat) : Int) from rfl, bV_ok u1, e399_268]
    · rw [e, show pv_c2 .eq (i32 ((mKd 16 : Nat) : Int)) 5 = false from rfl, cond_false, c_in (by omega) (by omega) (by omega), show pv_c2 .ne (i32 ((mKd 16 : Nat) : Int)) 9 = false from rfl, cond_false, e399_69, c_in (by omega) (by omega) (by omega), i32_ixn (by omega), e151, e, show pv_c2 .ne (i32 ((mKd 16 : Nat) : Int)) 5 = true from rfl, cond_true, e399_85, e399_86]
      rw [hkind, if_neg (by omega)] at u1
      rw [show (2 : Int32) = i32 ((2 : Nat) : Int) from rfl, bV_ok u1, e399_268]
  have hMs := two_m (L := L) (xs := xs) (X' := X') (x := x) (kind := kind) (sz := 3) m1.1 hE.1.1 m1.2.2.1 m1.2.2.2.1 rfl f1 f2 f3 hκ (by omega) hr.symm hrn hU hev hE.2.2.1.2.2.2.1 hG.2.2.2.1.2.1 hcap (by have := hG.no_le; omega) (by omega) hk12 (by omega) hx hX d
  -- the component
  obtain ⟨a1, a2, a3⟩ := hA.two hκ
  have hlt := AT.lt _ _ _ _ a3
  have hC' := hC.next
  obtain ⟨head, hhead⟩ : ∃ head, head + 1 = kind := ⟨kind - 1, by omega⟩
  have hCs := ctwo_c (L := L) (xs := xs) (head := head) (x := x) (X' := X') (k := rg.nu p 0) (p := p) hC'.1 hU hgr hC'.2.1 hC'.2.2.1 hC'.2.2.2.1 rfl ⟨nu2, nu3⟩ (fun j hj => hE.1.2.2.2.2.2.2.2.2 (X.ff j) (hG.2.2.2.2.1 j hj)) hr.symm hrn hM.2.2.2.1.2.2.2.2.2.1 hev (by have := hE.2.2.1.2.2.1; omega) hC'.2.2.2.2.1 (by omega) (by rw [hC'.at', a2]) (by omega) (by rw [hhead]; exact hx) (by omega) hX d
  have cop : ∀ σ1, rn L xs (d + 10) 266 0 [.ref 117, .int (i32 (head : Int)), jv] [] (wr σ 117 8 (i32 ((a + 1 : Nat) : Int))) = some (.inl none, σ1) → rn L xs (d + 11) 262 (t262 (6 + kind)) [.ref 117, .int (i32 ((6 + kind : Nat) : Int)), jv, jv] [] (wr σ 117 8 (i32 ((a + 1 : Nat) : Int))) = some (.inl none, σ1) := fun σ1 u1 => by
    rcases hk12 with e | e
    · obtain rfl : head = 0 := by omega
      rw [e, show t262 (6 + 1) = 231 from rfl, e262_231 (d + 10), show (0 : Int32) = i32 ((0 : Nat) : Int) from rfl, bV_ok u1, e262_386]
    · obtain rfl : head = 1 := by omega
      rw [e, show t262 (6 + 2) = 239 from rfl, e262_239 (d + 10), show (1 : Int32) = i32 ((1 : Nat) : Int) from rfl, bV_ok u1, e262_386]
  have hRa : rd σ 95 a = i32 ((6 + kind : Nat) : Int) := by
    rw [hC.at', a1, hkind]
    split <;> rfl
  have w0 : frW RCr σ (wr σ 117 8 (i32 ((a + 1 : Nat) : Int))) := frW_wr rfl
  have hWx : WFo D rg cd x := by
    rw [hx]
    refine ⟨hk12.elim .inl (fun e => .inr (.inl e)), fun _ => ⟨rfl, rfl⟩, fun e => absurd e hk3, (by decide : (2 + 0 : Nat) ≤ 100), fun w hw => ?_, fun r s hrs => (List.not_mem_nil hrs).elim⟩
    rcases List.mem_cons.mp hw with e | e
    · rw [e]; exact v0.2.2
    · rw [List.mem_singleton.mp e]; exact v1.2.2
  have hxc : ∀ w, w ∈ x.co → LVv X.hp X.no X.ser nr w := fun w hw => by
    rw [hx] at hw
    rcases List.mem_cons.mp hw with e | e
    · rw [e]; exact v0.2.1
    · rw [List.mem_singleton.mp e]; exact v1.2.1
  rcases hMs with ⟨s1, τ1, oa', fil', mt', g1, g2, g3, g4, g5, g6⟩ | ⟨c, s1, τ1, mt', g1, g2, g3, g4, g5, g6⟩
  · rcases hCs with ⟨s2, σ1, pl', pg', fl', z1, z2, z3, z4, z5, z6, z7⟩ | ⟨c, s2, σ1, z1, _⟩
    · rw [g1] at z1
      injection z1 with z1
      rw [← z1] at z3
      have h5 : rd σ1 117 5 = 1 := z5.2.2.2.2.1
      refine ⟨σ1, τ1, mstep τ1 g2, w0.trans z7, (m2.sub rfl rfl).trans (g6.sub rfl rfl), .inl ⟨cgo_on hC.1 hC.2.2.2.2.1 (by omega) (κ := 6 + kind) hRa (by omega) (cop σ1 z2) h5, wtK K, hwt, X', K, i, E, n - 1, uq ty Lv (E (T.oC p)), nr, av, Lv, dd, fn, plP s1 r 3, oa', fil', mt', pl', pg', fl', bk, a + 2, ?_, ⟨g5, m1.2.1.fr g6 rfl rfl rfl rfl, (m1.2.2.1.fr g6 rfl rfl rfl rfl rfl rfl).same (by rw [hX]; rfl) (by rw [hX]; rfl) (by rw [hX]; rfl), g4, by rw [g6.2 122 rfl]; exact m1.2.2.2.2⟩, ⟨hC'.1.fr z7 rfl, z3, z4, by rw [hX]; exact z5, z6, by rw [← hC'.2.2.2.2.2]; funext y; exact z7.1 95 rfl y⟩, by rw [hX]; exact a3, ?_, rfl⟩⟩
      · rw [hn2] at hX
        obtain ⟨e1, e2⟩ := made_vals (X' := X') (x := x) (t := E (T.oC p)) (Lv := Lv) (ty := ty) (nr := nr) (fun k hk => hG.2.2.1 k (by omega)) hG.2.2.2.1 (by omega) hWx (fun e => by rw [hx] at e; exact absurd e hk3) (by rw [hx]; unfold szO; rw [if_neg (show ¬ obD.kd ((kind, p), (r, X.ser r), [X.sv (n - 2), X.sv (n - 1)], []) = 3 from hk3)]; have := hE.2.2.1.1; omega) hxc (by rw [hx]; exact ⟨hrn, rfl⟩) (fun r s hrs => by rw [hx] at hrs; exact (List.not_mem_nil hrs).elim) hT hX
        rw [show n - 1 = Lv + 1 by omega]
        refine ⟨T_done hG.1 (by omega) (NEWo.dyk (x := x) ?_ hG.2.2.2.1.1 (by omega)), by omega, e1, e2, by rw [hX]; exact hG.2.2.2.2.1, ?_, hk⟩
        · rw [hX]; exact ⟨fun k hk => uq_ne (by omega), uq_self, rfl, rfl, rfl, rfl, rfl, rfl, rfl⟩
        · rw [hX]; exact ⟨c1, c2, c3, c4, c5, c6⟩
      · exact ⟨by rw [hX]; show mt' ≤ M0 + 3 * (X.no + 1); omega, putP_cp g1 hU.n_le hmt.2 (by omega)⟩
    · rw [g1] at z1; cases z1
  · rcases hCs with ⟨s2, σ1, pl', pg', fl', z1, _⟩ | ⟨c', s2, σ1, z1, z2, z3, z4, z5⟩
    · rw [g1] at z1; cases z1
    · rw [g1] at z1
      injection z1 with z1
      injection z1 with z1 z6
      subst z1; subst z6
      refine ⟨σ1, τ1, mstep τ1 g2, w0.trans z5, (m2.sub rfl rfl).trans g5, .inr ⟨cgo_end hC.1 hC.2.2.2.2.1 (by omega) (κ := 6 + kind) hRa (by omega) (cop σ1 z2) z4.2.1.1 (by omega), c, s1, X.B, X.no, mt', by omega, z4, hC'.1.fr z5 rfl, by rw [← hC'.2.2.2.2.2]; funext y; exact z5.1 95 rfl y, g4, g6, by have := hG.no_le; omega⟩⟩
end JTWO
