/-! RUNS, BOTH: closures -/
section JCLO
variable {L : Nat} {xs : Nat → Int32} {σ σ' σ1 τ τ' τ1 : tvS} {D : pgD} {m : Nat} {rg : rgD} {cd : cdD} {T : tsD} {vd W : Nat → Nat} {M wd pgs ev N : Nat} {G : tG} {rr : Nat → Nat} {R : Nat → Int32} {cs : Nat} {X X' X0 : dyD} {K K' : List (Nat × Nat × Nat)} {i : Nat} {E E' E0 : Nat → trE} {n n' : Nat} {ty ty' : Nat → trE} {nr nr' nr0 : Nat} {av av' av0 : Nat → Prop} {Lv dd dd' st w p b a κ q c j k e b' dc f : Nat} {fn fn' : Nat → Nat × Nat} {s s' : cSt} {oa : Nat → Nat} {fil mt : Nat} {pl : Nat → Nat} {pg : Nat → List Nat} {fl : List Nat} {bk ff : Nat → Nat} {d M0 B no : Nat} {x : obD} {t : trE} {sv : Nat → vaL}
theorem BGI.no_le (h : BGI D rg cd T vd W M wd X p K i E n ty nr av st) : X.no + 1 ≤ 30000 := by
  have := h.2.2.2.2.1
  omega
theorem BGI.rco (h : BGI D rg cd T vd W M wd X p K i E n ty nr av st) {o : Nat} (ho : RCO X n o) : 1 ≤ o ∧ o ≤ X.no ∧ (X.hp o).gi < nr ∧ X.ser (X.hp o).gi = (X.hp o).se := by
  obtain ⟨k, k1, k2⟩ := ho
  obtain ⟨⟨g1, g2⟩, g3⟩ := (h.2.1 k k1).2.1.2 o k2
  exact ⟨k2.lt.1, k2.lt.2, g1, g2⟩
theorem BGI.gch (hE : ENV D m rg cd T vd W M wd pgs ev) (h : BGI D rg cd T vd W M wd X p K i E n ty nr av st) : GCH D rg cd X n nr wd := by
  have hno := h.no_le
  refine ⟨h.2.2.1.1, by omega, fun o ho => ?_⟩
  obtain ⟨o1, o2, o3, o4⟩ := h.rco ho
  obtain ⟨w1, w2⟩ := h.2.2.1.2.1 o o1 o2
  refine ⟨w1, o3, h.2.2.1.2.2 o o1 o2, fun e => ?_⟩
  obtain ⟨f, f1, f2, f3, f4⟩ := w2 e
  exact (hE.1.1.fnb f1 f2 f3 f4).1
theorem BGI.puh (hE : ENV D m rg cd T vd W M wd pgs ev) (h : BGI D rg cd T vd W M wd X p K i E n ty nr av st) : ∃ (N : Nat) (A : alD), PUH X n nr wd N A := by
  have hno := h.no_le
  have hvok : ∀ k, k < n → VOK X.no (X.sv k) := fun k hk => (h.2.1 k hk).2.1.1
  have hok := okQ_stQ (no := X.no) (by omega) n hvok
  obtain ⟨N, n1, n2, _⟩ := bf_end (hp := X.hp) (no := X.no) (by omega) h.2.2.1.1 hok
  refine ⟨N, _, h.2.2.1.1, ⟨fun k hk => (h.2.1 k hk).2.2, fun o o1 o2 w hw => (h.2.2.1.2.1 o o1 o2).1.2.2.2.2.1 w hw⟩, hvok, fun k o ho => ?_, by omega, n1, n2, rfl, hE.2.2.1.2.1⟩
  have hr := met_reach h.2.2.1.1 (by omega) hvok k o ho
  obtain ⟨o1, o2, o3, o4⟩ := h.rco hr
  exact ⟨⟨o3, o4⟩, hr, h.2.2.1.2.2 o o1 o2⟩
theorem BGI.cap (hE : ENV D m rg cd T vd W M wd pgs ev) (h : BGI D rg cd T vd W M wd X p K i E n ty nr av st) (hP : CPs D X n nr wd pgs s pl pg fl σ) (k : Nat) : tdS X n k ≤ 51200 := by
  obtain ⟨l, l1, l2, l3⟩ := tdS_list X n k
  obtain ⟨h1, h2, h3, h4⟩ := hP
  have hg := h.gch hE
  have hle : tdS X n k ≤ suL (fun o => szO (X.hp o)) l := by
    rw [l3]
    refine suL_le l (fun o ho => ?_)
    have := (hg.2.2 o (l2 o ho).1).1.sz
    show _ ≤ szO (X.hp o)
    omega
  have hp := packing (w := fun o => szO (X.hp o)) (pl := pl) (wd := wd) (ex := exR pg 0 nr) l1 (fun o o' ho ho' hne => h3.2 o o' (l2 o ho).1 (l2 o' ho').1 hne) (fun o ho => by
    obtain ⟨g1, _⟩ := h3.1 o (l2 o ho).1
    have hgi := (hg.2.2 o (l2 o ho).1).2.1
    obtain ⟨p, p1, p2, p3⟩ := g1.page (h4.2.2.2 _ hgi).2
    exact ⟨p, (exR_mem _ _).mpr ⟨_, by omega, by omega, p1⟩, p2, p3⟩)
  have hlen : (exR pg 0 nr).length = s.U := by
    rw [exR_len, ← h4.2.2.1]
    exact sumF_congr nr 0 (fun q _ hq => (h1.2.2.1 q (by omega)).2.2.2.2)
  rw [hlen] at hp
  have hU : s.U ≤ 400 := by have := h4.1; have := h4.2.1; have := h1.2.2.2.2.2.2.1; omega
  have := Nat.mul_le_mul hU h1.2.2.2.2.2.2.2.1
  omega
theorem vals_list {P : Nat → vaL → Prop} : ∀ l : List Nat, (∀ v, v ∈ l → ∃ w, P v w) → ∃ vs : List vaL, vs.length = l.length ∧ ∀ (j : Nat) (w : vaL), vs[j]? = some w → P (l.getD j 0) w := by
  intro l
  induction l with
  | nil => intro _; exact ⟨[], rfl, fun j w h => by cases h⟩
  | cons v l ih =>
    intro h
    obtain ⟨w, hw⟩ := h v List.mem_cons_self
    obtain ⟨vs, h1, h2⟩ := ih (fun v' hv' => h v' (List.mem_cons_of_mem _ hv'))
    refine ⟨w :: vs, by show vs.length + 1 = l.length + 1; omega, fun j w' hj => ?_⟩
    cases j with
    | zero => have e : w = w' := by injection hj; 
              subst e; exact hw
    | succ j => exact h2 j w' hj
/-- a closure -/
theorem J_fn (hE : ENV D m rg cd T vd W M wd pgs ev) (hB : BGI D rg cd T vd W M wd X p K i E n ty nr av st) (hM : RMm D rg cd vd N G rr wd pgs ev X K i n nr fn s st oa fil mt τ) (hC : RMc D rg cd R cs wd pgs ev X i n nr fn s st pl pg fl bk a σ) (hI : INN D rg cd R (X.ff i) (CA D rg cd R (X.ff i) dc) p a e) (hL : LVc rg R (X.ff i) p e b') (hA : AT D rg cd R cs X.ff bk K i b' (n + 1)) (hkl : K.length + 20 < 130000) (hmt : mt ≤ M0 + 3 * X.no ∧ s.cp ≤ M0 + 80001) (hM0 : M0 ≤ 2000000000) (hκ : D.K p = 17) :
    JBE L xs d D rg cd T vd W M N G rr R cs wd pgs ev M0 st p (wtK K) σ τ := by
  intro v2 v3
  obtain ⟨⟨f1, f2, f3, f4, f5⟩, pc, ps, _⟩ := id hB.1.1
  obtain ⟨b1, b2⟩ := hE.1.1.pb f1 f3
  have hPF := (hE.1.1.2.2 _ f1).2.2.1 p f2 f3
  have hV := (hE.1.2.2.2.2.1 _ p f1 f2 f3).2
  have hno := hB.no_le
  have hp1 : 1 ≤ pgs := by have := hE.2.2.1.2.2.1; omega
  have hlt := AT.lt _ _ _ _ hA
  have hle := hL.le
  obtain ⟨k0, hkd⟩ := kd_one (D := D) (p := p) (by rw [hPF.2.2.1 (by omega), hκ]; rfl)
  obtain ⟨fb1, fb2, fb3, fb4⟩ := hE.1.1.fnb f1 f2 f3 hκ
  have hbF : 3 * D.bF (D.fc + 1) ≤ 3000 := by have := hE.1.1.1; omega
  obtain ⟨y1, y2, y3⟩ := hE.2.2.2.2.1 (D.vl p) fb1
  obtain ⟨_, _, vc, _⟩ := hV.1 hκ
  obtain ⟨I1, I2, I3, I4, I5⟩ := hI.2.2.2.2.2.2.1 hκ
  obtain ⟨j0, hj0⟩ : ∃ j0, j0 = D.vl p := ⟨_, rfl⟩
  rw [← hj0] at fb1 fb2 fb3 y1 y2 y3 vc I3 I4 I5
  -- what is caught
  obtain ⟨vs, vs1, vs2⟩ := vals_list (P := fun v w => LKv X i n (vd v) w ∧ (VTy D rg cd T X.hp X.no X.B w (E (T.vC v)) ∧ LVv X.hp X.no X.ser nr w ∧ w.1 ≤ 2) ∧ ((cd.vo v = cd.fn D p ∧ X.bs i + cd.sl v < n ∧ w = X.sv (X.bs i + cd.sl v)) ∨ (cd.vo v ≠ cd.fn D p ∧ ∃ o : Nat, X.bs i < n ∧ X.sv (X.bs i) = (2, i32 (o : Int)) ∧ 1 ≤ o ∧ o ≤ X.no ∧ (X.hp o).co[cd.ci (cd.fn D p) v]? = some w))) (cd.cg j0) (fun v hv => SCQ.look hE hB (vc v hv).1 (vc v hv).2)
  -- what is kept
  have hnr2 : nr ≤ 2000 := hM.2.2.2.1.2.2.1.1.2.1
  have hnK := hE.1.2.2.2.2.2.2.2.2 (X.ff i) f1
  have hkm : ∀ k, k ∈ rg.kp j0 → (1 ≤ k ∧ k ≤ rg.nK (X.ff i)) ∧ X.aR i k < nr := fun k hk => by
    have hav := T_keep (k := k) hE.1 hB.1.1 hκ hkd (by rw [← hj0]; exact hk)
    obtain ⟨q1, q2, q3, _⟩ := pc.2.2 k hav
    exact ⟨⟨q1, q2⟩, q3⟩
  have hk60 := kp60 y2 (fun k hk => by have := (hkm k hk).1; omega)
  obtain ⟨r, hr⟩ : ∃ r, r = X.aR i (rg.nu p 0) := ⟨_, rfl⟩
  obtain ⟨x, hx⟩ : ∃ x : obD, x = ((3, p), (r, X.ser r), vs, (rg.kp j0).map (fun k => (X.aR i k, X.ser (X.aR i k)))) := ⟨_, rfl⟩
  obtain ⟨X', hX⟩ : ∃ X' : dyD, X' = (uq X.sv n (2, i32 ((X.no + 1 : Nat) : Int)), (uq X.hp (X.no + 1) x, X.no + 1, X.B), X.2.2) := ⟨_, rfl⟩
  have hT := T_clo (x := x) hE.1 hB.1.1 hκ hkd (cs := vs) (by rw [← hj0]; exact vs1) (fun j w hj => by rw [← hj0]; exact (vs2 j w hj).2.1.1) (by rw [hx, hr, hj0])
  rw [← hr] at hT
  obtain ⟨hrn, hTk, hT⟩ := hT
  obtain ⟨nu1, nu2, nu3⟩ := PRT.put (k := rg.nu p 0) hE.1 hB.1.1 (.inl ⟨by omega, rfl⟩)
  obtain ⟨Nq, A, hU⟩ := hB.puh hE
  have hev := hE.2.2.1.2.2.2.2
  have hcap := hB.cap hE hC.2.1 (X.no + 1)
  have hser := hB.2.2.2.2.1.2.2.2.2.2 r hrn
  have hBb := hB.2.2.2.2.1
  have hgr := hB.gch hE
  obtain ⟨sz, hsz⟩ : ∃ sz, sz = 1 + (cd.cg j0).length + (rg.kp j0).length := ⟨_, rfl⟩
  -- the model plans the end
  obtain ⟨τ1, u1, u2, u3⟩ := plan_m (L := L) (xs := xs) hM.2.1 (by omega) (7, p, n) (d + 4)
  have u1 : rn L xs (d + 5) 397 0 [.ref 123, .int 7, .int (i32 (p : Int)), .int (i32 (n : Int))] [] τ = some (.inl none, τ1) := u1
  have hM1 : RMm D rg cd vd N G rr wd pgs ev X ((7, p, n) :: K) i n nr fn s st oa fil mt τ1 := ⟨hM.1.fr u3 rfl rfl rfl, u2, hM.2.2.1.fr u3 rfl rfl rfl rfl rfl rfl, hM.2.2.2.1.any (X' := X) (hM.2.2.2.1.1.fr u3 rfl rfl rfl) u3 rfl rfl (by rw [u3.2 130 rfl]; exact hM.h130) rfl rfl rfl rfl (fun _ h => h), by rw [u3.2 122 rfl]; exact hM.2.2.2.2⟩
  have hrun : ∀ τ', rn L xs (d + 5) 421 0 [.ref 123, .int (i32 (p : Int)), jv, jv, jv] [] τ1 = some (.inl none, τ') → rn L xs (d + 6) 418 53 [.ref 123, .int (i32 (p : Int)), v2, v3] [] τ = some (.inl none, τ') := fun τ' h => by
    rw [e418_53, hM.2.2.2.1.1.1, bV_ok u1, c_in (by omega) (by omega) (by omega), i32_ixn (by omega), (hM1.1.2.2.1 p b1).1, hκ, swk_of (sw418 (mKd 17) (by decide)), show t418 (mKd 17) = 174 from rfl, e418_174, bV_ok h, e418_365]
  have hMs := clo_m (L := L) (xs := xs) (X' := X') (x := x) (cs := vs) (sz := sz) hM1.1 hE.1.1 hM1.2.2.1 hM1.2.2.2.1 rfl f1 f2 f3 hκ (by omega) hr.symm hrn hU hev hE.2.2.1.2.2.2.1 hB.2.2.1.2.1 hcap (by omega) (by omega) (by rw [← hj0]; exact y1) (by rw [← hj0]; exact hk60) (fun j hj => by rw [← hj0] at hj ⊢; exact y3 _ (getD_mem hj)) (by rw [← hj0]; exact vs1) (fun j w hj => by rw [← hj0]; exact (vs2 j w hj).1) (fun j hj => by rw [← hj0] at hj ⊢; have := hkm _ (getD_mem hj); exact ⟨by omega, by omega⟩) (by rw [← hj0]; exact hx) (by rw [← hj0]; exact hsz) hX d
  -- the component
  have hC' := hC.next
  have hCs := cclo_c (L := L) (xs := xs) (X' := X') (x := x) (vs := vs) (sz := sz) (j0 := j0) (k := rg.nu p 0) (p := p) (a := a + 1) hC'.1 hU hgr hC'.2.1 hC'.2.2.1 hC'.2.2.2.1 rfl ⟨nu2, nu3⟩ (fun j hj => hE.1.2.2.2.2.2.2.2.2 (X.ff j) (hB.2.2.2.1 j hj)) hr.symm hrn hM.2.2.2.1.2.2.2.2.2.1 hev hp1 hC'.2.2.2.2.1 (by omega) (by rw [hC'.at', I2]) (by rw [hC'.at', I3]) fb1 (by omega) hj0.symm y1 hk60 (by have := hB.1.2.1; omega) vs1 (fun j w hj => by
    have hjl : j < (cd.cg j0).length := by rw [← vs1]; exact (List.getElem?_eq_some_iff.mp hj).1
    obtain ⟨_, q1, q2⟩ := vs2 j w hj
    refine ⟨?_, q1.2.2⟩
    rw [hC'.2.2.2.2.2]
    rw [show a + 1 + 2 + 2 * j = a + 3 + 2 * j by omega]
    have I5' := I5 j hjl
    rw [show a + 4 + 2 * j = a + 3 + 2 * j + 1 by omega] at I5'
    rcases I5' with ⟨c1, c2, c3⟩ | ⟨c1, c2, c3⟩
    · rcases q2 with ⟨_, q4, q5⟩ | ⟨q3, _⟩
      · exact .inl ⟨c2, _, c3, q4, q5⟩
      · exact absurd c1 q3
    · rcases q2 with ⟨q3, _⟩ | ⟨_, o, q4, q5, q6, q7, q8⟩
      · exact absurd q3 c1
      · exact .inr ⟨c2, _, o, c3, q4, q5, q6, q7, q8⟩) (fun j hj => by have := hkm _ (getD_mem hj); exact ⟨this.1.1, this.1.2, by omega⟩) hx hsz hX d
  have hop : ∀ σ2, rn L xs (d + 10) 269 0 [.ref 117, jv, jv, jv, jv, jv, jv, jv, jv] [] (wr σ 117 8 (i32 ((a + 1 : Nat) : Int))) = some (.inl none, σ2) → rn L xs (d + 11) 262 (t262 9) [.ref 117, .int (i32 ((9 : Nat) : Int)), jv, jv] [] (wr σ 117 8 (i32 ((a + 1 : Nat) : Int))) = some (.inl none, σ2) := fun σ2 h => by
    rw [show t262 9 = 247 from rfl, e262_247 (d + 10), bV_ok h, e262_386]
  have hRa : rd σ 95 a = i32 ((9 : Nat) : Int) := by rw [hC.at', I1]; rfl
  have w0 : frW RCr σ (wr σ 117 8 (i32 ((a + 1 : Nat) : Int))) := frW_wr rfl
  have xkl : x.kp.length = (rg.kp j0).length := by rw [hx]; show ((rg.kp j0).map _).length = _; rw [List.length_map]
  have xcl : x.co.length = (cd.cg j0).length := by rw [hx]; exact vs1
  have hWx : WFo D rg cd x := by
    refine ⟨.inr (.inr (by rw [hx]; rfl)), fun h => absurd (show x.kd = 3 by rw [hx]; rfl) h, fun _ => ?_, by rw [xkl, xcl]; exact y1, fun w hw => ?_, fun r' s' hrs => ?_⟩
    · have ept : x.pt = p := by rw [hx]; rfl
      rw [ept, ← hj0]
      exact ⟨xcl, xkl, by omega⟩
    · rw [hx] at hw
      obtain ⟨j, hj⟩ := List.mem_iff_getElem?.mp hw
      exact (vs2 j w hj).2.1.2.2
    · have := (hTk r' s' hrs).1
      omega
  have hxc : ∀ w, w ∈ x.co → LVv X.hp X.no X.ser nr w := fun w hw => by
    rw [hx] at hw
    obtain ⟨j, hj⟩ := List.mem_iff_getElem?.mp hw
    exact (vs2 j w hj).2.1.2.1
  rcases hMs with ⟨s1, τ2, oa', fil', mt', g0, g1, g2, g3, g4, g5, g6⟩ | ⟨s1, τ2, mt', g0, g1, g2, g3, g4, g5, g6⟩ | ⟨c, s1, τ2, mt', g1, g2, g3, g4, g5, g6⟩
  · rcases hCs with ⟨s2, σ2, pl', pg', fl', z0, z1, z2, z3, z4, z5, z6, z7⟩ | ⟨s2, σ2, z0, _⟩ | ⟨c, s2, σ2, z1, _⟩
    · rw [g1] at z1
      injection z1 with z1
      rw [← z1] at z3
      have hszw : sz ≤ wd := by
        have h9 := (g4.2.2.2.2.1.2.2.2 r hrn).2
        have : ((plP s1 r sz).R r).2.2 = (s1.R r).2.2 + sz := by
          show (uq s1.R r _ r).2.2 = _
          rw [uq_self]
        omega
      have hG := hB.made (X' := X') (x := x) hWx (fun _ => ⟨X.ff i, f1, by rw [hx]; exact f2, by rw [hx]; exact f3, by rw [hx]; exact hκ⟩) (by rw [hWx.sz, xcl, xkl]; omega) hxc (by rw [hx]; exact ⟨hrn, rfl⟩) hTk hT hX
      obtain ⟨_, _, _, hwt⟩ := hB.ends7
      have h5 : rd σ2 117 5 = 1 := z5.2.2.2.2.1
      refine ⟨σ2, τ2, hrun τ2 g2, w0.trans z7, (u3.sub rfl rfl).trans (g6.sub rfl rfl), .inl ⟨cgo_on hC.1 hC.2.2.2.2.1 (by omega) (κ := 9) hRa (by omega) (hop σ2 z2) h5, _, hwt, X', (7, p, n) :: K, i, E, n + 1, _, nr, av, n, (D.sl p).length, fn, plP s1 r sz, oa', fil', mt', pl', pg', fl', bk, e, hG, ⟨g5, hM1.2.1.fr g6 rfl rfl rfl rfl, (hM1.2.2.1.fr g6 rfl rfl rfl rfl rfl rfl).same (by rw [hX]; rfl) (by rw [hX]; rfl) (by rw [hX]; rfl), g4, by rw [g6.2 122 rfl]; exact hM1.2.2.2.2⟩, ⟨hC'.1.fr z7 rfl, z3, z4, by rw [hX]; exact z5, by rw [z6, I4], by rw [← hC'.2.2.2.2.2]; funext y; exact z7.1 95 rfl y⟩, by rw [hX]; exact AT.end7 (.inl ⟨rfl, .inl rfl⟩) rfl hL hA, ?_, rfl⟩⟩
      exact ⟨by rw [hX]; show mt' ≤ M0 + 3 * (X.no + 1); omega, putP_cp g1 hU.n_le hmt.2 (by omega)⟩
    · omega
    · rw [g1] at z1; cases z1
  · rcases hCs with ⟨s2, σ2, pl', pg', fl', z0, _⟩ | ⟨s2, σ2, z0, z1, z2, z3, z4⟩ | ⟨c, s2, σ2, z1, _⟩
    · omega
    · rw [g1] at z1
      injection z1 with z1
      rw [← z1] at z3
      exact ⟨σ2, τ2, hrun τ2 g2, w0.trans z4, (u3.sub rfl rfl).trans g5, .inr ⟨cgo_end hC.1 hC.2.2.2.2.1 (by omega) (κ := 9) hRa (by omega) (hop σ2 z2) z3.2.1.1 (by omega), 4, plP s1 r sz, X.B, X.no + 1, mt', by omega, z3, hC'.1.fr z4 rfl, by rw [← hC'.2.2.2.2.2]; funext y; exact z4.1 95 rfl y, g4, g6, by omega⟩⟩
    · rw [g1] at z1; cases z1
  · rcases hCs with ⟨s2, σ2, pl', pg', fl', z0, z1, _⟩ | ⟨s2, σ2, z0, z1, _⟩ | ⟨c', s2, σ2, z1, z2, z3, z4, z5⟩
    · rw [g1] at z1; cases z1
    · rw [g1] at z1; cases z1
    · rw [g1] at z1
      injection z1 with z1
      injection z1 with z1 z6
      subst z1; subst z6
      exact ⟨σ2, τ2, hrun τ2 g2, w0.trans z5, (u3.sub rfl rfl).trans g5, .inr ⟨cgo_end hC.1 hC.2.2.2.2.1 (by omega) (κ := 9) hRa (by omega) (hop σ2 z2) z4.2.1.1 (by omega), c, s1, X.B, X.no, mt', by omega, z4, hC'.1.fr z5 rfl, by rw [← hC'.2.2.2.2.2]; funext y; exact z5.1 95 rfl y, g4, g6, by omega⟩⟩
end JCLO
